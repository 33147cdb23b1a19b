set_option maxRecDepth 100000
/-! what holds between the two sides, call by call -/
/-- cells of the class's side that no call leaves anything in; Q: the steps and their rows -/
def scX (Q : Nat → Prop) (i k : Nat) : Prop := i = 7 ∨ i = 9 ∨ i = 11 ∨ (20 ≤ i ∧ i ≤ 116) ∨ (118 ≤ i ∧ i ≤ 214) ∨ (219 ≤ i ∧ i ≤ 223) ∨ (i = 4 ∧ (k = 21 ∨ k = 23 ∨ (28 ≤ k ∧ k ≤ 34))) ∨ (i = 6 ∧ k ≠ 9) ∨ (k = 5 ∧ Q i)
def scXJ (i : Nat) : Prop := i = 217 ∨ i = 218
/-- .. of the model's -/
def scM (a b : Nat) : Prop := a = 6 ∨ (8 ≤ a ∧ a ≤ 11) ∨ (17 ≤ a ∧ a ≤ 21) ∨ (a = 5 ∧ 1440 ≤ b) ∨ (a = 0 ∧ (b = 1 ∨ b = 9 ∨ (12 ≤ b ∧ b ≤ 18) ∨ b = 29 ∨ b = 34 ∨ b = 40 ∨ (43 ≤ b ∧ b ≤ 50)))
def scMJ (a b : Nat) : Prop := a = 7 ∨ a = 12 ∨ a = 15 ∨ a = 16 ∨ (a = 0 ∧ b = 19)
def kdT (so : Nat) : Nat := if so = 0 then 33 else if so = 1 then 34 else if so = 2 then 32 else 36
def TRt (g : Sh) (IX : MI) (JX : MJ) (IM : MI) (JM : MJ) (S Q : Nat → Prop) (t : Nat) : Prop :=
  (IM 2 t = mz ∧ IM 1 t = nz 0 ∧ IX (226 + t) 1 = nz 0 ∧ sR g (226 + t) 0 = none) ∨
  ∃ so m r, (so ≤ 3 ∧ m ≤ 60) ∧ (IM 1 t = nz so ∧ IM 2 t = nz m ∧ IX (226 + t) 1 = nz so) ∧ sR g (226 + t) 0 = some r ∧ (236 ≤ r ∧ r < sX g ∧ ¬ S r ∧ ¬ Q r) ∧ (sK g r = kdT so ∧ sN g r = m) ∧ (∀ t', t' < 4 → sR g (226 + t') 0 = some r → t' = t) ∧ ∀ k, k < m → JM 3 (60 * t + k) = if so = 3 then JX r k else (IX r k).toInt64
/-- how the class's steps lie to the model's: a to b of these at p to q of those -/
def LYs (kd nu cp te : Nat → Int32) (B : Nat → Nat) (p j : Nat) : Prop :=
  B (147 + 7 * j) ≤ 7 ∧ kd p = nz (B (147 + 7 * j) + 11) ∧
  ((B (147 + 7 * j) = 0 ∨ B (147 + 7 * j) = 1 ∨ B (147 + 7 * j) = 6) → (1 ≤ B (148 + 7 * j) ∧ B (148 + 7 * j) ≤ 99) ∧ nu p = nz (B (148 + 7 * j))) ∧
  (B (147 + 7 * j) = 5 → B (149 + 7 * j) ≤ 4 ∧ te p = nz (B (149 + 7 * j) + 20) ∧ (B (149 + 7 * j) = 4 → (B (150 + 7 * j) = 60 ∨ B (150 + 7 * j) = 61 ∨ B (150 + 7 * j) = 62) ∧ B (151 + 7 * j) ≤ 99 ∧ cp p = nz (B (150 + 7 * j)) ∧ nu p = nz (B (151 + 7 * j))))
/-- d: how deep a step may still hold steps -/
def LY (kd nu cp te to : Nat → Int32) (B : Nat → Nat) : Nat → Nat → Nat → Nat → Nat → Nat → Prop
  | 0, _, _, _, _, _ => False
  | f + 1, d, a, b, p, q => (a = b ∧ p = q) ∨ (a < b ∧ LYs kd nu cp te B p a ∧
      (if B (147 + 7 * a) = 5 ∨ B (147 + 7 * a) = 6
       then ∃ q1, (0 < d ∧ a < B (153 + 7 * a) ∧ B (153 + 7 * a) ≤ b) ∧ LY kd nu cp te to B f (d - 1) (a + 1) (B (153 + 7 * a)) (p + 1) q1 ∧ kd q1 = nz 19 ∧ to q1 = nz p ∧ to p = nz q1 ∧ LY kd nu cp te to B f d (B (153 + 7 * a)) b (q1 + 1) q
       else B (153 + 7 * a) = a + 1 ∧ LY kd nu cp te to B f d (a + 1) b (p + 1) q))
def SX (g : Sh) (I : MI) (Q : Nat → Prop) (so : Option Nat) (n : Int32) (B : Nat → Nat) : Prop :=
  (so = none ∧ n = nz 0 ∧ B 145 = 0 ∧ B 146 = 0) ∨
  ∃ a N, so = some a ∧ (n = nz N ∧ N ≤ 60 ∧ B 145 = 1 ∧ B 146 ≤ 30) ∧ (Q a ∧ sN g a = 60) ∧ (∀ p, p < N → sR g a p = some (ra g a p) ∧ Q (ra g a p)) ∧ (∀ p p', p < N → p' < N → ra g a p = ra g a p' → p = p') ∧
    LY (fun p => I (ra g a p) 0) (fun p => I (ra g a p) 1) (fun p => I (ra g a p) 2) (fun p => I (ra g a p) 3) (fun p => I (ra g a p) 4) B 61 3 0 (B 146) 0 N
/-- a side's block: the class's wall w, its notes at na, its steps, its hammer; the model's cells B -/
def BX (g : Sh) (I : MI) (S Q : Nat → Prop) (w : Nat) (so : Option Nat) (n h : Int32) (na : Nat) (B : Nat → Nat) : Prop :=
  WX g I S w B ∧ (∀ s, s < 96 → I na s = oz (B (49 + s))) ∧ h = nz (B 6) ∧ SX g I Q so n B
/-- the ids -/
def SH (g : Sh) (S Q : Nat → Prop) : Prop :=
  236 ≤ sX g ∧ (∀ i, S i → ((12 ≤ i ∧ i ≤ 18) ∨ 236 ≤ i) ∧ i < sX g ∧ ¬ Q i) ∧ (∀ i, Q i → 236 ≤ i ∧ i < sX g) ∧ (∀ j, j < 3 → sR g (230 + j * 2) 0 = some (231 + j * 2) ∧ sN g (231 + j * 2) = 96)
def cFr (JX JM : MJ) : Prop := JX 4 11 = JM 0 2 ∧ JX 4 12 = JM 0 3
def cTr (g : Sh) (IX : MI) (JX : MJ) (IM : MI) (JM : MJ) (S Q : Nat → Prop) : Prop := ∀ t, t < 4 → TRt g IX JX IM JM S Q t
def cTape (IX IM : MI) : Prop := (∃ n, n ≤ 900 ∧ IX 6 9 = nz n ∧ IM 0 8 = nz n) ∧ ∀ k, k < 900 → IX 8 k = IM 4 k
def cFt (IX IM : MI) : Prop := IX 4 9 = IM 0 10 ∧ IX 4 10 = IM 0 11
def cCur (g : Sh) (IX IM : MI) (S Q : Nat → Prop) (w : Nat) (B : Nat → Nat) : Prop := sR g 4 4 = some w ∧ (∀ k, k < 360 → IM 5 k = nz (B k)) ∧ WF B ∧ BX g IX S Q w (sR g 4 5) (IX 4 6) (IX 4 7) 10 B
def cMk (g : Sh) (IX IM : MI) (S Q : Nat → Prop) (mk : Nat) (wk : Nat → Nat) (C : Nat → Nat → Nat) : Prop := (mk ≤ 3 ∧ IX 4 38 = nz mk ∧ IM 0 23 = nz mk) ∧ ∀ j, j < mk → sR g (230 + j * 2) 1 = some (wk j) ∧ (∀ k, k < 360 → IM 5 (360 * (j + 1) + k) = nz (C j k)) ∧ WF (C j) ∧ BX g IX S Q (wk j) (sR g (230 + j * 2) 2) (IX (230 + j * 2) 3) (IX (230 + j * 2) 4) (231 + j * 2) (C j)
def cTo (IX IM : MI) : Prop := (∃ t, t ≤ 96 ∧ IX 4 17 = nz t ∧ IM 0 32 = nz t ∧ ∀ k, k < t → IX 215 k = IM 13 k ∧ IX 216 k = IM 14 k) ∧ IX 4 18 = IM 0 33 ∧ (IM 0 33 = mz ∨ ∃ f, f < 100 ∧ IM 0 33 = nz f)
def cWk (IX IM : MI) : Prop := IX 4 36 = IM 0 51 ∧ (∃ b, IM 0 51 = bo b) ∧ ∀ k, k < 4 → IX 224 k = IM 22 k
def Inv (g : Sh) (IX : MI) (JX : MJ) (IM : MI) (JM : MJ) : Prop := ∃ (S Q : Nat → Prop) (w : Nat) (B : Nat → Nat) (mk : Nat) (wk : Nat → Nat) (C : Nat → Nat → Nat),
  SH g S Q ∧ IX 4 8 = IM 0 0 ∧ cFr JX JM ∧ cTr g IX JX IM JM S Q ∧ cTape IX IM ∧ cFt IX IM ∧ cCur g IX IM S Q w B ∧ cMk g IX IM S Q mk wk C ∧ cTo IX IM ∧ cWk IX IM
/-- a call that leaves nothing but its status -/
def roX (Q : Nat → Prop) (I I' : MI) (st : Int32) : Prop := I' 4 8 = st ∧ ∀ i k, ¬ scX Q i k → ¬ (i = 4 ∧ k = 8) → I' i k = I i k
def roXJ (J J' : MJ) : Prop := ∀ i k, ¬ scXJ i → J' i k = J i k
def roM (I I' : MI) (st : Int32) : Prop := I' 0 0 = st ∧ ∀ a b, ¬ scM a b → ¬ (a = 0 ∧ b = 0) → I' a b = I a b
def roMJ (J J' : MJ) : Prop := ∀ a b, ¬ scMJ a b → J' a b = J a b
theorem roXJ_rfl (J : MJ) : roXJ J J := fun _ _ _ => rfl
theorem roMJ_rfl (J : MJ) : roMJ J J := fun _ _ _ => rfl
theorem LYs.keep {kd nu cp te kd' nu' cp' te' : Nat → Int32} {B B' : Nat → Nat} {p j : Nat} (h : LYs kd nu cp te B p j) (hk : kd' p = kd p ∧ nu' p = nu p ∧ cp' p = cp p ∧ te' p = te p) (hB : ∀ i, i < 7 → B' (147 + 7 * j + i) = B (147 + 7 * j + i)) : LYs kd' nu' cp' te' B' p j := by
  have b0 : B' (147 + 7 * j) = B (147 + 7 * j) := hB 0 (by omega)
  have b1 : B' (148 + 7 * j) = B (148 + 7 * j) := by have := hB 1 (by omega); rwa [show 147 + 7 * j + 1 = 148 + 7 * j by omega] at this
  have b2 : B' (149 + 7 * j) = B (149 + 7 * j) := by have := hB 2 (by omega); rwa [show 147 + 7 * j + 2 = 149 + 7 * j by omega] at this
  have b3 : B' (150 + 7 * j) = B (150 + 7 * j) := by have := hB 3 (by omega); rwa [show 147 + 7 * j + 3 = 150 + 7 * j by omega] at this
  have b4 : B' (151 + 7 * j) = B (151 + 7 * j) := by have := hB 4 (by omega); rwa [show 147 + 7 * j + 4 = 151 + 7 * j by omega] at this
  unfold LYs
  rw [b0, b1, b2, b3, b4, hk.1, hk.2.1, hk.2.2.1, hk.2.2.2]
  exact h
theorem LY_le {kd nu cp te to : Nat → Int32} {B : Nat → Nat} : ∀ {f d a b p q : Nat}, LY kd nu cp te to B f d a b p q → a ≤ b ∧ p ≤ q := by
  intro f
  induction f with
  | zero => intro d a b p q h; exact h.elim
  | succ f ih =>
    intro d a b p q h
    rcases h with ⟨h1, h2⟩ | ⟨h1, h2, h3⟩
    · omega
    · split at h3
      · obtain ⟨q1, h4, h5, -, -, -, h9⟩ := h3
        have := ih h5
        have := ih h9
        omega
      · have := ih h3.2
        omega
theorem LY.keep {kd nu cp te to kd' nu' cp' te' to' : Nat → Int32} {B B' : Nat → Nat} : ∀ {f d a b p q : Nat}, LY kd nu cp te to B f d a b p q → (∀ i, p ≤ i → i < q → kd' i = kd i ∧ nu' i = nu i ∧ cp' i = cp i ∧ te' i = te i ∧ to' i = to i) → (∀ j i, j < b → i < 7 → B' (147 + 7 * j + i) = B (147 + 7 * j + i)) → LY kd' nu' cp' te' to' B' f d a b p q := by
  intro f
  induction f with
  | zero => intro d a b p q h; exact h.elim
  | succ f ih =>
    intro d a b p q h hk hB
    rcases h with h | ⟨h1, h2, h3⟩
    · exact Or.inl h
    · have b0 : B' (147 + 7 * a) = B (147 + 7 * a) := hB a 0 h1 (by omega)
      have b6 : B' (153 + 7 * a) = B (153 + 7 * a) := by have := hB a 6 h1 (by omega); rwa [show 147 + 7 * a + 6 = 153 + 7 * a by omega] at this
      refine Or.inr ⟨h1, h2.keep ?_ (fun i hi => hB a i h1 hi), ?_⟩
      · have hpq : p < q := by
          split at h3
          · obtain ⟨q1, -, h5, -, -, -, h9⟩ := h3
            have := LY_le h5
            have := LY_le h9
            omega
          · have := LY_le h3.2
            omega
        have := hk p (Nat.le_refl p) hpq
        exact ⟨this.1, this.2.1, this.2.2.1, this.2.2.2.1⟩
      · rw [b0, b6]
        split at h3
        · rename_i hc
          rw [if_pos hc]
          obtain ⟨q1, h4, h5, h6, h7, h8, h9⟩ := h3
          have l1 := LY_le h5
          have l2 := LY_le h9
          have k1 := hk q1 (by omega) (by omega)
          have k2 := hk p (by omega) (by omega)
          exact ⟨q1, h4, ih h5 (fun i a1 a2 => hk i (by omega) (by omega)) (fun j i a1 a2 => hB j i (by omega) a2), by rw [k1.1]; exact h6, by rw [k1.2.2.2.2]; exact h7, by rw [k2.2.2.2.2]; exact h8, ih h9 (fun i a1 a2 => hk i (by omega) (by omega)) hB⟩
        · rename_i hc
          rw [if_neg hc]
          exact ⟨h3.1, ih h3.2 (fun i a1 a2 => hk i (by omega) a2) hB⟩
theorem SX.keep {g g' : Sh} {I I' : MI} {Q : Nat → Prop} {so : Option Nat} {n : Int32} {B B' : Nat → Nat} (h : SX g I Q so n B) (hI : ∀ i k, Q i → k ≠ 5 → I' i k = I i k) (hR : ∀ i k, Q i → sR g' i k = sR g i k) (hN : ∀ i, Q i → sN g' i = sN g i) (hB : ∀ k, 145 ≤ k → k < 360 → B' k = B k) : SX g' I' Q so n B' := by
  rcases h with ⟨h1, h2, h3, h4⟩ | ⟨a, N, h1, h2, h3, h4, h5, h6⟩
  · exact Or.inl ⟨h1, h2, by rw [hB 145 (by omega) (by omega)]; exact h3, by rw [hB 146 (by omega) (by omega)]; exact h4⟩
  · have e : ∀ p, ra g' a p = ra g a p := fun p => by unfold ra; rw [hR a p h3.1]
    refine Or.inr ⟨a, N, h1, by rw [hB 145 (by omega) (by omega), hB 146 (by omega) (by omega)]; exact h2, ⟨h3.1, by rw [hN a h3.1]; exact h3.2⟩, fun p hp => by rw [e, hR a p h3.1]; exact h4 p hp, fun p p' a1 a2 a3 => h5 p p' a1 a2 (by rw [e, e] at a3; exact a3), ?_⟩
    rw [hB 146 (by omega) (by omega)]
    simp only [e]
    refine h6.keep (fun i _ hi => ?_) (fun j i hj hi => hB _ (by omega) (by omega))
    have hq := (h4 i hi).2
    exact ⟨hI _ _ hq (by omega), hI _ _ hq (by omega), hI _ _ hq (by omega), hI _ _ hq (by omega), hI _ _ hq (by omega)⟩
section KP
variable {g g' : Sh} {IX IX' : MI} {JX JX' : MJ} {IM IM' : MI} {JM JM' : MJ} {S S' Q Q' : Nat → Prop} {w : Nat} {B : Nat → Nat}
theorem cFr.keep (h : cFr JX JM) (a : JX' 4 11 = JX 4 11 ∧ JX' 4 12 = JX 4 12) (b : JM' 0 2 = JM 0 2 ∧ JM' 0 3 = JM 0 3) : cFr JX' JM' := ⟨by rw [a.1, b.1]; exact h.1, by rw [a.2, b.2]; exact h.2⟩
theorem cTape.keep (h : cTape IX IM) (a : IX' 6 9 = IX 6 9 ∧ ∀ k, IX' 8 k = IX 8 k) (b : IM' 0 8 = IM 0 8 ∧ ∀ k, IM' 4 k = IM 4 k) : cTape IX' IM' := by
  obtain ⟨⟨n, a1, a2, a3⟩, a4⟩ := h
  exact ⟨⟨n, a1, by rw [a.1]; exact a2, by rw [b.1]; exact a3⟩, fun k hk => by rw [a.2, b.2]; exact a4 k hk⟩
theorem cFt.keep (h : cFt IX IM) (a : IX' 4 9 = IX 4 9 ∧ IX' 4 10 = IX 4 10) (b : IM' 0 10 = IM 0 10 ∧ IM' 0 11 = IM 0 11) : cFt IX' IM' := ⟨by rw [a.1, b.1]; exact h.1, by rw [a.2, b.2]; exact h.2⟩
theorem cTo.keep (h : cTo IX IM) (a : (IX' 4 17 = IX 4 17 ∧ IX' 4 18 = IX 4 18) ∧ ∀ k, IX' 215 k = IX 215 k ∧ IX' 216 k = IX 216 k) (b : (IM' 0 32 = IM 0 32 ∧ IM' 0 33 = IM 0 33) ∧ ∀ k, IM' 13 k = IM 13 k ∧ IM' 14 k = IM 14 k) : cTo IX' IM' := by
  obtain ⟨⟨t, a1, a2, a3, a4⟩, a5, a6⟩ := h
  refine ⟨⟨t, a1, by rw [a.1.1]; exact a2, by rw [b.1.1]; exact a3, fun k hk => ?_⟩, by rw [a.1.2, b.1.2]; exact a5, by rw [b.1.2]; exact a6⟩
  rw [(a.2 k).1, (a.2 k).2, (b.2 k).1, (b.2 k).2]
  exact a4 k hk
theorem cWk.keep (h : cWk IX IM) (a : IX' 4 36 = IX 4 36 ∧ ∀ k, IX' 224 k = IX 224 k) (b : IM' 0 51 = IM 0 51 ∧ ∀ k, IM' 22 k = IM 22 k) : cWk IX' IM' := ⟨by rw [a.1, b.1]; exact h.1, by rw [b.1]; exact h.2.1, fun k hk => by rw [a.2, b.2]; exact h.2.2 k hk⟩
theorem cTr.keep (h : cTr g IX JX IM JM S Q) (sS : ∀ i, i < sX g → S' i → S i) (sQ : ∀ i, i < sX g → Q' i → Q i) (hX : sX g ≤ sX g') (hR : ∀ t, t < 4 → sR g' (226 + t) 0 = sR g (226 + t) 0) (hK : ∀ r, 236 ≤ r → r < sX g → ¬ S r → ¬ Q r → sK g' r = sK g r ∧ sN g' r = sN g r) (a : ∀ t, t < 4 → IX' (226 + t) 1 = IX (226 + t) 1)
    (a' : ∀ r k, 236 ≤ r → r < sX g → ¬ S r → ¬ Q r → IX' r k = IX r k ∧ JX' r k = JX r k) (b : ∀ t, t < 4 → IM' 1 t = IM 1 t ∧ IM' 2 t = IM 2 t) (b' : ∀ k, JM' 3 k = JM 3 k) : cTr g' IX' JX' IM' JM' S' Q' := by
  intro t ht
  rcases h t ht with ⟨a1, a2, a3, a4⟩ | ⟨so, m, r, a1, a2, a3, a4, a5, a6, a7⟩
  · exact Or.inl ⟨by rw [(b t ht).2]; exact a1, by rw [(b t ht).1]; exact a2, by rw [a t ht]; exact a3, by rw [hR t ht]; exact a4⟩
  · obtain ⟨r1, r2, r3, r4⟩ := a4
    have hk := hK r r1 r2 r3 r4
    refine Or.inr ⟨so, m, r, a1, by rw [(b t ht).1, (b t ht).2, a t ht]; exact a2, by rw [hR t ht]; exact a3, ⟨r1, by omega, fun q => r3 (sS r r2 q), fun q => r4 (sQ r r2 q)⟩, by rw [hk.1, hk.2]; exact a5, fun t' ht' => by rw [hR t' ht']; exact a6 t' ht', fun k hk' => ?_⟩
    have hv := a' r k r1 r2 r3 r4
    rw [b', hv.1, hv.2]
    exact a7 k hk'
theorem WX.mono {I : MI} (h : WX g I S w B) (hS : ∀ i, S i → S' i) : WX g I S' w B := by
  obtain ⟨⟨h1, h2⟩, h3, h4, h5, h6, h7, h8, h9⟩ := h
  exact ⟨⟨hS _ h1, fun k hk => ⟨(h2 k hk).1, hS _ (h2 k hk).2⟩⟩, h3, h4, h5, fun i hi => ⟨(h6 i hi).1, hS _ (h6 i hi).2.1, (h6 i hi).2.2⟩, fun i hi => ⟨(h7 i hi).1, hS _ (h7 i hi).2.1, (h7 i hi).2.2⟩, fun i hi => ⟨(h8 i hi).1, hS _ (h8 i hi).2.1, (h8 i hi).2.2⟩, h9⟩
theorem SX.mono {I : MI} {so : Option Nat} {n : Int32} (h : SX g I Q so n B) (hQ : ∀ i, Q i → Q' i) : SX g I Q' so n B := by
  rcases h with h | ⟨a, N, h1, h2, h3, h4, h5, h6⟩
  · exact Or.inl h
  · exact Or.inr ⟨a, N, h1, h2, ⟨hQ _ h3.1, h3.2⟩, fun p hp => ⟨(h4 p hp).1, hQ _ (h4 p hp).2⟩, h5, h6⟩
theorem BX.keep {I I' : MI} {so : Option Nat} {n hh : Int32} {na : Nat} (h : BX g I S Q w so n hh na B) (sS : ∀ i, S i → S' i) (sQ : ∀ i, Q i → Q' i) (hI : ∀ i k, S i → I' i k = I i k) (hQ : ∀ i k, Q i → k ≠ 5 → I' i k = I i k) (hR : ∀ i k, S i ∨ Q i → sR g' i k = sR g i k) (hN : ∀ i, S i ∨ Q i → sN g' i = sN g i) (hna : ∀ s, s < 96 → I' na s = I na s) : BX g' I' S' Q' w so n hh na B :=
  ⟨(h.1.keep hI (fun i k q => hR i k (Or.inl q)) (fun i q => hN i (Or.inl q))).mono sS, fun s hs => by rw [hna s hs]; exact h.2.1 s hs, h.2.2.1, (h.2.2.2.keep hQ (fun i k q => hR i k (Or.inr q)) (fun i q => hN i (Or.inr q)) (fun _ _ _ => rfl)).mono sQ⟩
theorem cCur.keep (h : cCur g IX IM S Q w B) (sS : ∀ i, S i → S' i) (sQ : ∀ i, Q i → Q' i) (hI : ∀ i k, S i → IX' i k = IX i k) (hQ : ∀ i k, Q i → k ≠ 5 → IX' i k = IX i k) (hR : ∀ i k, S i ∨ Q i → sR g' i k = sR g i k) (hN : ∀ i, S i ∨ Q i → sN g' i = sN g i) (h4 : sR g' 4 4 = sR g 4 4 ∧ sR g' 4 5 = sR g 4 5) (hna : ∀ s, s < 96 → IX' 10 s = IX 10 s) (hf : IX' 4 6 = IX 4 6 ∧ IX' 4 7 = IX 4 7) (hm : ∀ k, k < 360 → IM' 5 k = IM 5 k) : cCur g' IX' IM' S' Q' w B := by
  obtain ⟨a1, a2, a3, a4⟩ := h
  refine ⟨by rw [h4.1]; exact a1, fun k hk => by rw [hm k hk]; exact a2 k hk, a3, ?_⟩
  rw [h4.2, hf.1, hf.2]
  exact a4.keep sS sQ hI hQ hR hN hna
theorem cMk.keep {mk : Nat} {wk : Nat → Nat} {C : Nat → Nat → Nat} (h : cMk g IX IM S Q mk wk C) (sS : ∀ i, S i → S' i) (sQ : ∀ i, Q i → Q' i) (hI : ∀ i k, S i → IX' i k = IX i k) (hQ : ∀ i k, Q i → k ≠ 5 → IX' i k = IX i k) (hR : ∀ i k, S i ∨ Q i → sR g' i k = sR g i k) (hN : ∀ i, S i ∨ Q i → sN g' i = sN g i) (hk : ∀ i k, 230 ≤ i → i ≤ 235 → sR g' i k = sR g i k) (hi : ∀ i k, 230 ≤ i → i ≤ 235 → IX' i k = IX i k) (hf : IX' 4 38 = IX 4 38) (hm0 : IM' 0 23 = IM 0 23) (hm : ∀ k, 360 ≤ k → k < 1440 → IM' 5 k = IM 5 k) : cMk g' IX' IM' S' Q' mk wk C := by
  obtain ⟨⟨a1, a2, a3⟩, a4⟩ := h
  refine ⟨⟨a1, by rw [hf]; exact a2, by rw [hm0]; exact a3⟩, fun j hj => ?_⟩
  obtain ⟨b1, b2, b3, b4⟩ := a4 j hj
  refine ⟨by rw [hk _ _ (by omega) (by omega)]; exact b1, fun k hk => by rw [hm _ (by omega) (by omega)]; exact b2 k hk, b3, ?_⟩
  rw [hk _ 2 (by omega) (by omega), hi _ 3 (by omega) (by omega), hi _ 4 (by omega) (by omega)]
  exact b4.keep sS sQ hI hQ hR hN fun s _ => hi _ s (by omega) (by omega)
end KP
/-- a run of the class's side that keeps all but its scratch cells, its status and what E says -/
def kpX (Q : Nat → Prop) (E : Nat → Nat → Prop) (I I' : MI) : Prop := ∀ i k, ¬ scX Q i k → ¬ (i = 4 ∧ k = 8) → ¬ E i k → I' i k = I i k
def kpM (E : Nat → Nat → Prop) (I I' : MI) : Prop := ∀ a b, ¬ scM a b → ¬ (a = 0 ∧ b = 0) → ¬ E a b → I' a b = I a b
theorem kpX.S {g : Sh} {S Q : Nat → Prop} {E : Nat → Nat → Prop} {I I' : MI} (h : kpX Q E I I') (hs : SH g S Q) (hE : ∀ i k, E i k → i < 12 ∨ (18 < i ∧ i < 236) ∨ ¬ S i) : ∀ i k, S i → I' i k = I i k := fun i k hi => h i k (by
  have a := hs.2.1 i hi
  unfold scX
  rintro (q | q | q | q | q | q | q | q | q)
  · omega
  · omega
  · omega
  · omega
  · omega
  · omega
  · omega
  · omega
  · exact a.2.2 q.2) (by have := (hs.2.1 i hi).1; omega) (fun q => by
    have := (hs.2.1 i hi).1
    rcases hE i k q with q | q | q
    · omega
    · omega
    · exact q hi)
theorem kpX.Q {g : Sh} {S Q : Nat → Prop} {E : Nat → Nat → Prop} {I I' : MI} (h : kpX Q E I I') (hs : SH g S Q) (hE : ∀ i k, E i k → i < 236 ∨ ¬ Q i) : ∀ i k, Q i → k ≠ 5 → I' i k = I i k := fun i k hi hk => h i k (by have a := hs.2.2.1 i hi; unfold scX; omega) (by have a := hs.2.2.1 i hi; omega) (fun q => by
    have := hs.2.2.1 i hi
    rcases hE i k q with q | q
    · omega
    · exact q hi)
/-- .. of a fixed cell -/
theorem kpX.at {g : Sh} {S Q : Nat → Prop} {E : Nat → Nat → Prop} {I I' : MI} (h : kpX Q E I I') (hs : SH g S Q) {i k : Nat} (hi : (i = 4 ∧ k ≠ 8 ∧ ¬ (k = 21 ∨ k = 23 ∨ (28 ≤ k ∧ k ≤ 34))) ∨ i = 8 ∨ i = 10 ∨ (i = 6 ∧ k = 9) ∨ i = 215 ∨ i = 216 ∨ (224 ≤ i ∧ i ≤ 235)) (hE : ¬ E i k) : I' i k = I i k := h i k (by
  unfold scX
  rintro (q | q | q | q | q | q | q | q | q)
  · omega
  · omega
  · omega
  · omega
  · omega
  · omega
  · omega
  · omega
  · have := hs.2.2.1 _ q.2; omega) (by omega) hE
theorem kpX.row {g : Sh} {S Q : Nat → Prop} {E : Nat → Nat → Prop} {I I' : MI} (h : kpX Q E I I') {r k : Nat} (hr : 236 ≤ r) (hq : ¬ Q r) (hE : ¬ E r k) : I' r k = I r k := h r k (by
  unfold scX
  rintro (q | q | q | q | q | q | q | q | q)
  · omega
  · omega
  · omega
  · omega
  · omega
  · omega
  · omega
  · omega
  · exact hq q.2) (by omega) hE
def eN : Nat → Nat → Prop := fun _ _ => False
theorem Inv.ro {g : Sh} {IX IX' : MI} {JX JX' : MJ} {IM IM' : MI} {JM JM' : MJ} (h : Inv g IX JX IM JM) {st : Int32} (hx : ∀ Q : Nat → Prop, roX Q IX IX' st) (hxj : roXJ JX JX') (hm : roM IM IM' st) (hmj : roMJ JM JM') : Inv g IX' JX' IM' JM' := by
  obtain ⟨S, Q, w, B, mk, wk, C, h1, h2, h3, h4, h5, h6, h7, h8, h9, h10⟩ := h
  obtain ⟨x1, x2⟩ := hx Q
  obtain ⟨m1, m2⟩ := hm
  have kx : kpX Q eN IX IX' := fun i k a b _ => x2 i k a b
  have sI := kx.S h1 (fun _ _ q => q.elim)
  have qI := kx.Q h1 (fun _ _ q => q.elim)
  have at' : ∀ {i k : Nat}, _ → IX' i k = IX i k := fun {i k} hi => kx.at h1 (i := i) (k := k) hi (fun q => q)
  refine ⟨S, Q, w, B, mk, wk, C, h1, by rw [x1, m1], ?_, ?_, ?_, ?_, ?_, ?_, ?_, ?_⟩
  · exact h3.keep ⟨hxj _ _ (by unfold scXJ; omega), hxj _ _ (by unfold scXJ; omega)⟩ ⟨hmj _ _ (by unfold scMJ; omega), hmj _ _ (by unfold scMJ; omega)⟩
  · exact h4.keep (fun _ _ q => q) (fun _ _ q => q) (Nat.le_refl _) (fun _ _ => rfl) (fun _ _ _ _ _ => ⟨rfl, rfl⟩) (fun t ht => at' (by omega)) (fun r k a1 a2 a3 a4 => ⟨kx.row (g := g) (S := S) a1 a4 (fun q => q), hxj _ _ (by unfold scXJ; omega)⟩) (fun t ht => ⟨m2 _ _ (by unfold scM; omega) (by omega), m2 _ _ (by unfold scM; omega) (by omega)⟩) (fun k => hmj _ _ (by unfold scMJ; omega))
  · exact h5.keep ⟨at' (by omega), fun k => at' (by omega)⟩ ⟨m2 _ _ (by unfold scM; omega) (by omega), fun k => m2 _ _ (by unfold scM; omega) (by omega)⟩
  · exact h6.keep ⟨at' (by omega), at' (by omega)⟩ ⟨m2 _ _ (by unfold scM; omega) (by omega), m2 _ _ (by unfold scM; omega) (by omega)⟩
  · exact h7.keep (fun _ q => q) (fun _ q => q) sI qI (fun _ _ _ => rfl) (fun _ _ => rfl) ⟨rfl, rfl⟩ (fun s _ => at' (by omega)) ⟨at' (by omega), at' (by omega)⟩ (fun k hk => m2 _ _ (by unfold scM; omega) (by omega))
  · exact h8.keep (fun _ q => q) (fun _ q => q) sI qI (fun _ _ _ => rfl) (fun _ _ => rfl) (fun _ _ _ _ => rfl) (fun i k a b => at' (by omega)) (at' (by omega)) (m2 _ _ (by unfold scM; omega) (by omega)) (fun k a b => m2 _ _ (by unfold scM; omega) (by omega))
  · exact h9.keep ⟨⟨at' (by omega), at' (by omega)⟩, fun k => ⟨at' (by omega), at' (by omega)⟩⟩ ⟨⟨m2 _ _ (by unfold scM; omega) (by omega), m2 _ _ (by unfold scM; omega) (by omega)⟩, fun k => ⟨m2 _ _ (by unfold scM; omega) (by omega), m2 _ _ (by unfold scM; omega) (by omega)⟩⟩
  · exact h10.keep ⟨at' (by omega), fun k => at' (by omega)⟩ ⟨m2 _ _ (by unfold scM; omega) (by omega), fun k => m2 _ _ (by unfold scM; omega) (by omega)⟩
