set_option maxRecDepth 100000
/-! truth values -/
def bo (b : Bool) : Int32 := if b then nz 1 else nz 0
theorem bo_t : bo true = nz 1 := rfl
theorem bo_f : bo false = nz 0 := rfl
theorem bo_0 (b : Bool) : (bo b = nz 0) = (b = false) := by cases b <;> simp [bo, nz_eq]
theorem bo_1 (b : Bool) : (bo b = nz 1) = (b = true) := by cases b <;> simp [bo, nz_eq]
theorem bo_01 (b : Bool) : (bo b = nz 0 ∨ bo b = nz 1) = True := by cases b <;> simp [bo]
theorem bo_bo (a b : Bool) : (bo a = bo b) = (a = b) := by cases a <;> cases b <;> simp [bo, nz_eq]
theorem bo_ok (b : Bool) : bo b = 0 ∨ bo b = 1 := by cases b; exact Or.inl rfl; exact Or.inr rfl
theorem e_bo {c : Prop} [Decidable c] : (if c then some (1 : Int32) else some (0 : Int32)) = some (bo (decide c)) := by
  by_cases h : c
  · rw [if_pos h, decide_eq_true h]; rfl
  · rw [if_neg h, decide_eq_false h]; rfl
theorem e_bon {c : Prop} [Decidable c] : (if c then some (0 : Int32) else some (1 : Int32)) = some (bo (!decide c)) := by
  by_cases h : c
  · rw [if_pos h, decide_eq_true h]; rfl
  · rw [if_neg h, decide_eq_false h]; rfl
theorem bo_cases {x : Int32} (h : x = 0 ∨ x = 1) : ∃ b, x = bo b := by
  rcases h with rfl | rfl
  · exact ⟨false, rfl⟩
  · exact ⟨true, rfl⟩
/-! a block: what the model holds of a wall, of what is noted, of a round, in 360 cells -/
def pre (B : Nat → Nat) (c : Nat) : Nat := sm (fun k => B (7 + k)) c
def stn (B : Nat → Nat) : Nat := pre B (B 2)
/-- the slips told up to a stone -/
def slp (B : Nat → Nat) (s : Nat) : Nat := sm (fun k => if B (21 + k) ≤ s then B (27 + k) else 0) (B 4)
def cnt (B : Nat → Nat) (t : Bool) (s : Nat) : Nat := (B 1 - 1 + s + (if t then slp B s else 0)) % B 0 + 1
def hol (B : Nat → Nat) (s : Nat) : Bool := decide (cnt B true s = B 0)
def swo (B : Nat → Nat) (s : Nat) : Bool := decide (cnt B false s = B 0)
def crs (B : Nat → Nat) (s : Nat) : Nat := fi (fun c => decide (s < pre B (c + 1))) (B 2)
def bgn (B : Nat → Nat) (m : Nat) : Nat := sm (fun k => B (13 + k)) m
/-- the last place below n at which p holds, and one; 0: none -/
def la (p : Nat → Bool) : Nat → Nat
  | 0 => 0
  | n + 1 => if p n then n + 1 else la p n
/-- who laid a stone, and one -/
def mas (B : Nat → Nat) (s : Nat) : Nat := la (fun m => decide (bgn B m ≤ s)) (B 3)
def cst (B : Nat → Nat) (s : Nat) : Nat := if mas B s = 0 then 1 else if 1 < mas B s ∧ bgn B (mas B s - 1) = s then 1 else B (17 + (mas B s - 1))
/-- a stone's find, and one -/
def fnd (B : Nat → Nat) (s : Nat) : Nat := fi (fun k => decide (B (33 + k) = s)) (B 5)
def noted (B : Nat → Nat) (s : Nat) : Bool := decide (B (49 + s) ≠ 0)
def suit (B : Nat → Nat) (s v : Nat) : Bool := decide (B (49 + s) = 0) || (decide (B (49 + s) = 2) == decide (v = B 0))
/-- what a block is like -/
def WF (B : Nat → Nat) : Prop :=
  (2 ≤ B 0 ∧ B 0 ≤ 13) ∧ (1 ≤ B 1 ∧ B 1 ≤ B 0) ∧ (B 2 ≤ 6 ∧ B 3 ≤ 4 ∧ B 4 ≤ 6 ∧ B 5 ≤ 8) ∧
  (∀ k, k < B 2 → 1 ≤ B (7 + k) ∧ B (7 + k) ≤ 16) ∧
  (∀ k, k < B 3 → (1 ≤ B (13 + k) ∧ B (13 + k) ≤ 96) ∧ 1 ≤ B (17 + k) ∧ B (17 + k) ≤ 9) ∧
  (∀ k, k < B 4 → (1 ≤ B (21 + k) ∧ B (21 + k) < stn B) ∧ 1 ≤ B (27 + k) ∧ B (27 + k) < B 0) ∧
  (∀ k j, j < k → k < B 4 → B (21 + j) < B (21 + k)) ∧
  (∀ k, k < B 5 → B (33 + k) < stn B ∧ B (41 + k) ≤ 9999) ∧
  (∀ k j, j < k → k < B 5 → B (33 + j) ≠ B (33 + k)) ∧
  (∀ s, s < 96 → B (49 + s) ≤ 2) ∧ (∀ s, stn B ≤ s → s < 96 → B (49 + s) = 0) ∧
  (B 6 < stn B ∨ (stn B = 0 ∧ B 6 = 0))
section WFs
variable {B : Nat → Nat}
theorem WF.oath (h : WF B) : 2 ≤ B 0 ∧ B 0 ≤ 13 := h.1
theorem WF.first (h : WF B) : 1 ≤ B 1 ∧ B 1 ≤ B 0 := h.2.1
theorem WF.many (h : WF B) : B 2 ≤ 6 ∧ B 3 ≤ 4 ∧ B 4 ≤ 6 ∧ B 5 ≤ 8 := h.2.2.1
theorem WF.course (h : WF B) : ∀ k, k < B 2 → 1 ≤ B (7 + k) ∧ B (7 + k) ≤ 16 := h.2.2.2.1
theorem WF.mason (h : WF B) : ∀ k, k < B 3 → (1 ≤ B (13 + k) ∧ B (13 + k) ≤ 96) ∧ 1 ≤ B (17 + k) ∧ B (17 + k) ≤ 9 := h.2.2.2.2.1
theorem WF.slip (h : WF B) : ∀ k, k < B 4 → (1 ≤ B (21 + k) ∧ B (21 + k) < stn B) ∧ 1 ≤ B (27 + k) ∧ B (27 + k) < B 0 := h.2.2.2.2.2.1
theorem WF.slips (h : WF B) : ∀ k j, j < k → k < B 4 → B (21 + j) < B (21 + k) := h.2.2.2.2.2.2.1
theorem WF.find (h : WF B) : ∀ k, k < B 5 → B (33 + k) < stn B ∧ B (41 + k) ≤ 9999 := h.2.2.2.2.2.2.2.1
theorem WF.finds (h : WF B) : ∀ k j, j < k → k < B 5 → B (33 + j) ≠ B (33 + k) := h.2.2.2.2.2.2.2.2.1
theorem WF.note (h : WF B) : ∀ s, s < 96 → B (49 + s) ≤ 2 := h.2.2.2.2.2.2.2.2.2.1
theorem WF.note0 (h : WF B) : ∀ s, stn B ≤ s → s < 96 → B (49 + s) = 0 := h.2.2.2.2.2.2.2.2.2.2.1
theorem WF.ham (h : WF B) : B 6 < stn B ∨ (stn B = 0 ∧ B 6 = 0) := h.2.2.2.2.2.2.2.2.2.2.2
theorem WF.st96 (h : WF B) : stn B ≤ 96 := by
  have h1 : sm (fun k => B (7 + k)) (B 2) ≤ 16 * B 2 := sm_bd fun i hi => (h.course i hi).2
  have h2 := h.many
  show sm _ _ ≤ 96
  omega
theorem WF.pre96 (h : WF B) {c : Nat} (hc : c ≤ B 2) : pre B c ≤ 96 := Nat.le_trans (sm_le hc) h.st96
theorem WF.bgb (h : WF B) {m : Nat} (hm : m ≤ B 3) : bgn B m ≤ 384 := by
  have h1 : sm (fun k => B (13 + k)) m ≤ 96 * m := sm_bd fun i hi => (h.mason i (by omega)).1.2
  have h2 := h.many
  show sm _ _ ≤ 384
  omega
theorem WF.slpb (h : WF B) (s : Nat) : slp B s ≤ 78 := by
  have h1 : sm (fun k => if B (21 + k) ≤ s then B (27 + k) else 0) (B 4) ≤ 13 * B 4 := sm_bd fun i hi => by
    have := h.slip i hi
    have := h.oath
    show (if _ then _ else _) ≤ _
    split <;> omega
  have h2 := h.many
  show sm _ _ ≤ 78
  omega
theorem la_le (p : Nat → Bool) (n : Nat) : la p n ≤ n := by
  induction n with
  | zero => exact Nat.le_refl _
  | succ n ih => unfold la; split <;> omega
theorem la_at {p : Nat → Bool} {n : Nat} (h : 0 < la p n) : p (la p n - 1) = true := by
  induction n with
  | zero => exact absurd h (Nat.lt_irrefl _)
  | succ n ih =>
    unfold la at h ⊢
    split
    · simpa using ‹p n = true›
    · rw [if_neg (by assumption)] at h; exact ih h
theorem la_above {p : Nat → Bool} {n k : Nat} (h : la p n ≤ k) (hk : k < n) : p k = false := by
  induction n with
  | zero => exact absurd hk (Nat.not_lt_zero _)
  | succ n ih =>
    unfold la at h
    split at h
    · omega
    · by_cases e : k = n
      · subst e; simpa using ‹¬ p k = true›
      · exact ih h (by omega)
theorem WF.masb (_h : WF B) (s : Nat) : mas B s ≤ B 3 := la_le _ _
theorem WF.cntb (h : WF B) (t : Bool) (s : Nat) : 1 ≤ cnt B t s ∧ cnt B t s ≤ B 0 := by
  have := h.oath
  have h1 := Nat.mod_lt (B 1 - 1 + s + (if t then slp B s else 0)) (y := B 0) (by omega)
  unfold cnt
  omega
theorem WF.cstb (h : WF B) (s : Nat) : 1 ≤ cst B s ∧ cst B s ≤ 9 := by
  have h1 := h.masb s
  unfold cst
  split
  · omega
  · split
    · omega
    · exact (h.mason (mas B s - 1) (by omega)).2
end WFs
