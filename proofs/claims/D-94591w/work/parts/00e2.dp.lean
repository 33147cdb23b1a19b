set_option maxRecDepth 100000
/-! the least cost, step by step, and in how many ways -/
def mn (f : Nat → Nat) (F : Nat) : Nat → Nat
  | 0 => F
  | n + 1 => min (mn f F n) (f (n + 1))
theorem mn_le (f : Nat → Nat) (F n : Nat) : mn f F n ≤ F := by
  induction n with
  | zero => exact Nat.le_refl _
  | succ n ih => exact Nat.le_trans (Nat.min_le_left _ _) ih
theorem mn_get {f : Nat → Nat} {F n d : Nat} (h1 : 1 ≤ d) (h2 : d ≤ n) : mn f F n ≤ f d := by
  induction n with
  | zero => omega
  | succ n ih =>
    by_cases e : d = n + 1
    · subst e; exact Nat.min_le_right _ _
    · exact Nat.le_trans (Nat.min_le_left _ _) (ih (by omega))
theorem mn_at {f : Nat → Nat} {F n : Nat} (h : mn f F n < F) : ∃ d, 1 ≤ d ∧ d ≤ n ∧ f d = mn f F n := by
  induction n with
  | zero => exact absurd h (Nat.lt_irrefl _)
  | succ n ih =>
    by_cases q : mn f F n ≤ f (n + 1)
    · have e : mn f F (n + 1) = mn f F n := Nat.min_eq_left q
      rw [e] at h ⊢
      obtain ⟨d, a, b, c⟩ := ih h
      exact ⟨d, a, by omega, c⟩
    · have e : mn f F (n + 1) = f (n + 1) := Nat.min_eq_right (by omega)
      rw [e]
      exact ⟨n + 1, by omega, by omega, rfl⟩
theorem mn_congr {f g : Nat → Nat} {F n : Nat} (h : ∀ d, 1 ≤ d → d ≤ n → f d = g d) : mn f F n = mn g F n := by
  induction n with
  | zero => rfl
  | succ n ih => rw [mn, mn, ih fun d a b => h d a (by omega), h (n + 1) (by omega) (by omega)]
/-- what those weigh that cost so much -/
def sw (f w : Nat → Nat) (L n : Nat) : Nat := sm (fun i => if f (i + 1) = L then w (i + 1) else 0) n
theorem sw_s (f w : Nat → Nat) (L n : Nat) : sw f w L (n + 1) = sw f w L n + if f (n + 1) = L then w (n + 1) else 0 := rfl
theorem sw_below {f w : Nat → Nat} {F L n : Nat} (h : L < mn f F n) : sw f w L n = 0 := sm_zero fun i hi => by
  have := mn_get (f := f) (F := F) (n := n) (d := i + 1) (by omega) (by omega)
  exact if_neg (by omega)
/-- the least place where P holds, or X -/
def lst (P : Nat → Nat) (X : Nat) : Nat := fi (fun x => decide (P x ≠ 0)) X
theorem lst_le (P : Nat → Nat) (X : Nat) : lst P X ≤ X := fi_le _ _
theorem lst_at {P : Nat → Nat} {X : Nat} (h : lst P X < X) : P (lst P X) ≠ 0 := by
  exact of_decide_eq_true (fi_at (p := fun x => decide (P x ≠ 0)) (n := X) h)
theorem lst_below {P : Nat → Nat} {X x : Nat} (h : x < lst P X) : P x = 0 := by
  have := fi_before (p := fun x => decide (P x ≠ 0)) (n := X) (k := x) h
  simpa using this
theorem lst_get {P : Nat → Nat} {X x : Nat} (h : P x ≠ 0) : lst P X ≤ x := by
  by_cases q : x < lst P X
  · exact absurd (lst_below q) h
  · omega
theorem lst_eq {P : Nat → Nat} {X k : Nat} (hk : k < X) (hb : ∀ i, i < k → P i = 0) (hp : P k ≠ 0) : lst P X = k := fi_eq (by omega) (fun i hi => decide_eq_false (by simpa using hb i hi)) (fun _ => decide_eq_true hp)
theorem lst_none {P : Nat → Nat} {X : Nat} (hb : ∀ i, i < X → P i = 0) : lst P X = X := fi_eq (Nat.le_refl _) (fun i hi => decide_eq_false (by simpa using hb i hi)) (fun q => absurd q (Nat.lt_irrefl _))
theorem lst_congr {P Q : Nat → Nat} {X : Nat} (h : ∀ x, x < X → P x = Q x) : lst P X = lst Q X := fi_congr fun i hi => by rw [h i hi]
section DP
variable {M X F : Nat} {P : Nat → Nat → Nat} {ok : Nat → Bool} {sd : Nat → Nat}
/-- what a step further costs; F: it can't be -/
def its (P : Nat → Nat → Nat) (ok : Nat → Bool) (sd : Nat → Nat) (X F d : Nat) : Nat := if ok d = true ∧ lst (P d) X < X then lst (P d) X + sd d else F
def stepP (P : Nat → Nat → Nat) (ok : Nat → Bool) (sd : Nat → Nat) (M x : Nat) : Nat := sc (fun d => if ok d = true ∧ sd d ≤ x then P d (x - sd d) else 0) M
theorem its_lt (hX : X ≤ F) (hb : ∀ d x, P d x ≠ 0 → x + sd d < X) {d : Nat} (h : its P ok sd X F d < F) : ok d = true ∧ lst (P d) X < X ∧ its P ok sd X F d = lst (P d) X + sd d ∧ its P ok sd X F d < X := by
  unfold its at h ⊢
  by_cases q : ok d = true ∧ lst (P d) X < X
  · rw [if_pos q]
    exact ⟨q.1, q.2, rfl, hb d _ (lst_at q.2)⟩
  · rw [if_neg q] at h; omega
theorem stepP_ne (hX : X ≤ F) (hb : ∀ d x, P d x ≠ 0 → x + sd d < X) {x : Nat} (h : stepP P ok sd M x ≠ 0) : mn (its P ok sd X F) F M ≤ x ∧ x < X := by
  obtain ⟨d, h1, h2, h3⟩ := sc_ne0 h
  by_cases q : ok d = true ∧ sd d ≤ x
  · rw [if_pos q] at h3
    have h4 := hb d _ h3
    have h5 := lst_get (X := X) h3
    have h6 : lst (P d) X < X := by omega
    have h7 := mn_get (f := its P ok sd X F) (F := F) h1 h2
    have h8 : its P ok sd X F d = lst (P d) X + sd d := if_pos ⟨q.1, h6⟩
    have := q.2
    omega
  · rw [if_neg q] at h3; exact absurd rfl h3
theorem dp_ways (hX : X ≤ F) (hb : ∀ d x, P d x ≠ 0 → x + sd d < X) (h : mn (its P ok sd X F) F M < F) : stepP P ok sd M (mn (its P ok sd X F) F M) = sw (its P ok sd X F) (fun d => P d (lst (P d) X)) (mn (its P ok sd X F) F M) M := by
  refine sm_congr fun i hi => ?_
  have hm := mn_get (f := its P ok sd X F) (F := F) (n := M) (d := i + 1) (by omega) (by omega)
  generalize hd : i + 1 = d at hm ⊢
  generalize mn (its P ok sd X F) F M = v at hm h ⊢
  show (if ok d = true ∧ sd d ≤ v then P d (v - sd d) else 0) = (if its P ok sd X F d = v then P d (lst (P d) X) else 0)
  by_cases q : its P ok sd X F d = v
  · rw [if_pos q]
    obtain ⟨a, b, c, -⟩ := its_lt (ok := ok) (sd := sd) hX hb (d := d) (by omega)
    rw [if_pos ⟨a, by omega⟩]
    have e : v - sd d = lst (P d) X := by omega
    rw [e]
  · rw [if_neg q]
    by_cases r : ok d = true ∧ sd d ≤ v
    · rw [if_pos r]
      by_cases z : P d (v - sd d) = 0
      · exact z
      · exfalso
        have h4 := hb d _ z
        have h5 := lst_get (X := X) z
        have h8 : its P ok sd X F d = lst (P d) X + sd d := if_pos ⟨r.1, by omega⟩
        have := r.2
        omega
    · rw [if_neg r]
theorem dp_lst (hX : X ≤ F) (hb : ∀ d x, P d x ≠ 0 → x + sd d < X) : mn (its P ok sd X F) F M = if lst (stepP P ok sd M) X < X then lst (stepP P ok sd M) X else F := by
  have hle := mn_le (its P ok sd X F) F M
  by_cases h : mn (its P ok sd X F) F M < F
  · obtain ⟨d, h1, h2, h3⟩ := mn_at h
    obtain ⟨a, b, c, e⟩ := its_lt (ok := ok) (sd := sd) hX hb (d := d) (by omega)
    have hl : lst (stepP P ok sd M) X = mn (its P ok sd X F) F M := by
      refine lst_eq (by omega) (fun i hi => ?_) ?_
      · by_cases z : stepP P ok sd M i = 0
        · exact z
        · have := (stepP_ne hX hb z).1; omega
      · have := sc_get (f := fun d => if ok d = true ∧ sd d ≤ mn (its P ok sd X F) F M then P d (mn (its P ok sd X F) F M - sd d) else 0) (M := M) h1 h2
        rw [if_pos ⟨a, by omega⟩] at this
        have e1 : mn (its P ok sd X F) F M - sd d = lst (P d) X := by omega
        rw [e1] at this
        have := lst_at b
        show sc _ _ ≠ 0
        omega
    rw [hl, if_pos (by omega)]
  · have hl : lst (stepP P ok sd M) X = X := lst_none fun i hi => by
      by_cases z : stepP P ok sd M i = 0
      · exact z
      · have := stepP_ne hX hb z; omega
    rw [hl, if_neg (Nat.lt_irrefl _)]
    omega
end DP
