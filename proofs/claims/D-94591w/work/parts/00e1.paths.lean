set_option maxRecDepth 100000
/-! readings, as paths: how many of each cost there are, from both ends -/
theorem sm_zero {f : Nat → Nat} {n : Nat} (h : ∀ i, i < n → f i = 0) : sm f n = 0 := by
  have := sm_bd (f := f) (c := 0) (n := n) fun i hi => by rw [h i hi]; exact Nat.le_refl _
  omega
theorem sm_eq0 {f : Nat → Nat} {n : Nat} (h : sm f n = 0) {i : Nat} (hi : i < n) : f i = 0 := by
  have := sm_get (f := f) hi
  omega
theorem sm_ne0 {f : Nat → Nat} {n : Nat} (h : sm f n ≠ 0) : ∃ i, i < n ∧ f i ≠ 0 := by
  induction n with
  | zero => exact absurd rfl h
  | succ n ih =>
    by_cases q : f n = 0
    · rw [sm_s, q, Nat.add_zero] at h
      obtain ⟨i, h1, h2⟩ := ih h
      exact ⟨i, by omega, h2⟩
    · exact ⟨n, by omega, q⟩
theorem sm_add (f : Nat → Nat) (a b : Nat) : sm f (a + b) = sm f a + sm (fun i => f (a + i)) b := by
  induction b with
  | zero => rfl
  | succ b ih => rw [← Nat.add_assoc, sm_s, ih, sm_s, Nat.add_assoc]
theorem sm_plus (f g : Nat → Nat) (n : Nat) : sm (fun i => f i + g i) n = sm f n + sm g n := by
  induction n with
  | zero => rfl
  | succ n ih => rw [sm_s, sm_s, sm_s, ih]; omega
theorem sm_swap (f : Nat → Nat → Nat) (n m : Nat) : sm (fun i => sm (fun j => f i j) m) n = sm (fun j => sm (fun i => f i j) n) m := by
  induction n with
  | zero => exact (sm_zero fun _ _ => rfl).symm
  | succ n ih => rw [sm_s, ih, ← sm_plus]; rfl
theorem sm_mulL (c : Nat) (f : Nat → Nat) (n : Nat) : c * sm f n = sm (fun i => c * f i) n := by
  induction n with
  | zero => rfl
  | succ n ih => rw [sm_s, sm_s, Nat.mul_add, ih]
theorem sm_mulR (c : Nat) (f : Nat → Nat) (n : Nat) : sm f n * c = sm (fun i => f i * c) n := by
  rw [Nat.mul_comm, sm_mulL]
  exact sm_congr fun i _ => Nat.mul_comm _ _
/-- one place alone counts -/
theorem sm_one {f : Nat → Nat} {n k : Nat} (hk : k < n) (h : ∀ i, i < n → i ≠ k → f i = 0) : sm f n = f k := by
  have e : n = k + (1 + (n - k - 1)) := by omega
  rw [e, sm_add, sm_add, sm_zero (n := k) fun i hi => h i (by omega) (by omega), sm_zero (n := n - k - 1) fun i hi => h _ (by omega) (by omega)]
  show 0 + (0 + f (k + 0) + 0) = _
  rw [Nat.add_zero k]; omega
/-- over counts 1 .. M -/
def sc (f : Nat → Nat) (M : Nat) : Nat := sm (fun i => f (i + 1)) M
theorem sc_congr {f g : Nat → Nat} {M : Nat} (h : ∀ v, 1 ≤ v → v ≤ M → f v = g v) : sc f M = sc g M := sm_congr fun i hi => h (i + 1) (by omega) (by omega)
theorem sc_zero {f : Nat → Nat} {M : Nat} (h : ∀ v, 1 ≤ v → v ≤ M → f v = 0) : sc f M = 0 := sm_zero fun i hi => h (i + 1) (by omega) (by omega)
theorem sc_eq0 {f : Nat → Nat} {M : Nat} (h : sc f M = 0) {v : Nat} (h1 : 1 ≤ v) (h2 : v ≤ M) : f v = 0 := by
  have := sm_eq0 h (i := v - 1) (by omega)
  have e : v - 1 + 1 = v := by omega
  rwa [e] at this
theorem sc_ne0 {f : Nat → Nat} {M : Nat} (h : sc f M ≠ 0) : ∃ v, 1 ≤ v ∧ v ≤ M ∧ f v ≠ 0 := by
  obtain ⟨i, h1, h2⟩ := sm_ne0 h
  exact ⟨i + 1, by omega, by omega, h2⟩
theorem sc_get {f : Nat → Nat} {M v : Nat} (h1 : 1 ≤ v) (h2 : v ≤ M) : f v ≤ sc f M := by
  have := sm_get (f := fun i => f (i + 1)) (n := M) (k := v - 1) (by omega)
  have e : v - 1 + 1 = v := by omega
  simp only [e] at this
  show f v ≤ sm _ _
  omega
theorem sc_swap (f : Nat → Nat → Nat) (n m : Nat) : sc (fun i => sc (fun j => f i j) m) n = sc (fun j => sc (fun i => f i j) n) m := sm_swap (fun i j => f (i + 1) (j + 1)) n m
theorem sc_sm (f : Nat → Nat → Nat) (n m : Nat) : sc (fun i => sm (fun j => f i j) m) n = sm (fun j => sc (fun i => f i j) n) m := sm_swap (fun i j => f (i + 1) j) n m
theorem sm_sc (f : Nat → Nat → Nat) (n m : Nat) : sm (fun i => sc (fun j => f i j) m) n = sc (fun j => sm (fun i => f i j) n) m := (sc_sm (fun i j => f j i) m n).symm
theorem sc_mulL (c : Nat) (f : Nat → Nat) (n : Nat) : c * sc f n = sc (fun i => c * f i) n := sm_mulL _ _ _
theorem sc_mulR (c : Nat) (f : Nat → Nat) (n : Nat) : sc f n * c = sc (fun i => f i * c) n := sm_mulR _ _ _
/-- moved along -/
theorem sm_shift (f h : Nat → Nat) (a x : Nat) : sm (fun z => (if a ≤ z then f (z - a) else 0) * h (x - z)) (x + 1) = sm (fun y => f y * (if a ≤ x - y then h (x - y - a) else 0)) (x + 1) := by
  by_cases ha : a ≤ x
  · have e1 : x + 1 = a + (x - a + 1) := by omega
    have e2 : x + 1 = (x - a + 1) + a := by omega
    rw [e1, sm_add, sm_zero (n := a) fun i hi => by rw [if_neg (by omega), Nat.zero_mul]]
    conv => rhs; rw [← e1, e2, sm_add]
    rw [sm_zero (n := a) fun i hi => by rw [if_neg (by omega), Nat.mul_zero], Nat.zero_add, Nat.add_zero]
    refine sm_congr fun i hi => ?_
    rw [if_pos (by omega), if_pos (by omega)]
    congr 2 <;> omega
  · rw [sm_zero fun i hi => by rw [if_neg (by omega), Nat.zero_mul], sm_zero fun i hi => by rw [if_neg (by omega), Nat.mul_zero]]
section PA
variable (M : Nat) (su : Nat → Nat → Bool) (ok : Nat → Nat → Nat → Bool) (st : Nat → Nat → Nat → Nat) (go : Nat → Bool)
/-- from a count at a stone on, k stones still to come: how many ways of a cost -/
def PB : Nat → Nat → Nat → Nat → Nat
  | 0, s, c, x => if su s c = true ∧ x = 0 then 1 else 0
  | k + 1, s, c, x => if su s c = true then sc (fun d => if ok (s + 1) c d = true ∧ st (s + 1) c d ≤ x then PB k (s + 1) d (x - st (s + 1) c d) else 0) M else 0
/-- up to a count at a stone -/
def QF : Nat → Nat → Nat → Nat
  | 0, v, x => if su 0 v = true ∧ go v = true ∧ x = 0 then 1 else 0
  | s + 1, v, x => if su (s + 1) v = true then sc (fun u => if ok (s + 1) u v = true ∧ st (s + 1) u v ≤ x then QF s u (x - st (s + 1) u v) else 0) M else 0
/-- whole ways of a cost, counted at a stone -/
def CV (s k x : Nat) : Nat := sc (fun v => sm (fun y => QF M su ok st go s v y * PB M su ok st k s v (x - y)) (x + 1)) M
theorem PB_su {k s c x : Nat} (h : su s c = false) : PB M su ok st k s c x = 0 := by
  cases k <;> simp [PB, h]
theorem QF_su {s c x : Nat} (h : su s c = false) : QF M su ok st go s c x = 0 := by
  cases s <;> simp [QF, h]
theorem CV_step (s k x : Nat) : CV M su ok st go s (k + 1) x = CV M su ok st go (s + 1) k x := by
  unfold CV
  have e1 : ∀ v, sm (fun y => QF M su ok st go s v y * PB M su ok st (k + 1) s v (x - y)) (x + 1) = sc (fun d => sm (fun y => QF M su ok st go s v y * (if ok (s + 1) v d = true ∧ st (s + 1) v d ≤ x - y then PB M su ok st k (s + 1) d (x - y - st (s + 1) v d) else 0)) (x + 1)) M := fun v => by
    rw [← sm_sc]
    refine sm_congr fun y _ => ?_
    rw [← sc_mulL]
    cases hs : su s v with
    | false => rw [QF_su M su ok st go hs, Nat.zero_mul, Nat.zero_mul]
    | true => rw [PB, if_pos hs]
  have e2 : ∀ d, sm (fun z => QF M su ok st go (s + 1) d z * PB M su ok st k (s + 1) d (x - z)) (x + 1) = sc (fun v => sm (fun z => (if ok (s + 1) v d = true ∧ st (s + 1) v d ≤ z then QF M su ok st go s v (z - st (s + 1) v d) else 0) * PB M su ok st k (s + 1) d (x - z)) (x + 1)) M := fun d => by
    rw [← sm_sc]
    refine sm_congr fun z _ => ?_
    rw [← sc_mulR]
    cases hs : su (s + 1) d with
    | false => rw [PB_su M su ok st hs, Nat.mul_zero, Nat.mul_zero]
    | true => rw [QF, if_pos hs]
  rw [sc_congr fun v _ _ => e1 v, sc_congr fun d _ _ => e2 d, sc_swap]
  refine sc_congr fun d _ _ => sc_congr fun v _ _ => ?_
  cases ho : ok (s + 1) v d with
  | false => simp
  | true =>
    have := sm_shift (fun y => QF M su ok st go s v y) (fun y => PB M su ok st k (s + 1) d y) (st (s + 1) v d) x
    simpa using this.symm
theorem CV_eq (s k x : Nat) : CV M su ok st go 0 (s + k) x = CV M su ok st go s k x := by
  induction s generalizing k with
  | zero => rw [Nat.zero_add]
  | succ s ih => rw [← CV_step, ← ih (k + 1)]; congr 1; omega
theorem CV_0 (k x : Nat) : CV M su ok st go 0 k x = sc (fun v => if go v = true then PB M su ok st k 0 v x else 0) M := by
  refine sc_congr fun v _ _ => ?_
  rw [sm_one (k := 0) (by omega) fun y _ hy => by rw [QF, if_neg (fun q => hy q.2.2), Nat.zero_mul], QF]
  cases hs : su 0 v with
  | false => rw [PB_su M su ok st hs, PB_su M su ok st hs]; simp
  | true => cases go v <;> simp
theorem CV_n (s x : Nat) : CV M su ok st go s 0 x = sc (fun v => QF M su ok st go s v x) M := by
  refine sc_congr fun v _ _ => ?_
  rw [sm_one (k := x) (by omega) fun y hy hx => by rw [PB, if_neg (fun q => by omega), Nat.mul_zero], PB]
  cases hs : su s v with
  | false => rw [QF_su M su ok st go hs, Nat.zero_mul]
  | true => simp
end PA
