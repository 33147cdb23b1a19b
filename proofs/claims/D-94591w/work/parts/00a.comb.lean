/-! THE MIRRORS' COMBINATORS: what a method computes, as a function into Option (none: a fault, or fuel out) -/
set_option maxRecDepth 100000
/-- the fuel of a loop -/
def FU : Nat := 2000000
def ck {A : Type} (c : Prop) [Decidable c] (x : Option A) : Option A := if c then x else none
theorem ck_some {A : Type} {c : Prop} [Decidable c] {x : Option A} {o : A} (h : ck c x = some o) : c ∧ x = some o := by
  unfold ck at h
  by_cases hc : c
  · rw [if_pos hc] at h; exact ⟨hc, h⟩
  · rw [if_neg hc] at h; cases h
theorem ck_pos {A : Type} {c : Prop} [Decidable c] {x : Option A} (h : c) : ck c x = x := if_pos h
def nn {A : Type} (r : Option Nat) (f : Nat → Option A) : Option A := r.bind f
theorem nn_some {A : Type} {r : Option Nat} {f : Nat → Option A} {o : A} (h : nn r f = some o) : ∃ j, r = some j ∧ f j = some o := by
  cases r with
  | none => cases h
  | some j => exact ⟨j, rfl, h⟩
theorem nn_mk {A : Type} {r : Option Nat} {f : Nat → Option A} {j : Nat} (h : r = some j) : nn r f = f j := by rw [h]; rfl
def cb {A B : Type} (x : Option A) (f : A → Option B) : Option B := x.bind f
theorem cb_some {A B : Type} {x : Option A} {f : A → Option B} {o : B} (h : cb x f = some o) : ∃ a, x = some a ∧ f a = some o := by
  cases x with
  | none => cases h
  | some a => exact ⟨a, rfl, h⟩
theorem cb_mk {A B : Type} {x : Option A} {f : A → Option B} {a : A} (h : x = some a) : cb x f = f a := by rw [h]; rfl
theorem cb_pure {A B : Type} (a : A) (f : A → Option B) : cb (some a) f = f a := rfl
theorem cb_ite {A B : Type} (c : Prop) [Decidable c] (x y : Option A) (f : A → Option B) : cb (if c then x else y) f = if c then cb x f else cb y f := by
  by_cases h : c
  · rw [if_pos h, if_pos h]
  · rw [if_neg h, if_neg h]
def nm {A B : Type} (a : A) (f : A → Option B) : Option B := f a
theorem nm_some {A B : Type} {a : A} {f : A → Option B} {o : B} (h : nm a f = some o) : ∃ x, x = a ∧ f x = some o := ⟨a, rfl, h⟩
def jn {A B : Type} (F : A) (b : A → Option B) : Option B := b F
theorem jn_some {A B : Type} {F : A} {b : A → Option B} {o : B} (h : jn F b = some o) : ∃ j, j = F ∧ b j = some o := ⟨F, rfl, h⟩
theorem br_pos {A : Type} {c : Prop} [Decidable c] {x y : Option A} {o : A} (hc : c) (h : (if c then x else y) = some o) : x = some o := by rw [if_pos hc] at h; exact h
theorem br_neg {A : Type} {c : Prop} [Decidable c] {x y : Option A} {o : A} (hc : ¬ c) (h : (if c then x else y) = some o) : y = some o := by rw [if_neg hc] at h; exact h
def ek {A O B : Type} (r : A ⊕ O) (f : A → Option B) (k : O → Option B) : Option B := match r with
  | .inl a => f a
  | .inr o => k o
theorem ek_some {A O B : Type} {r : A ⊕ O} {f : A → Option B} {k : O → Option B} {b : B} (h : ek r f k = some b) : (∃ x, r = .inl x ∧ f x = some b) ∨ ∃ o, r = .inr o ∧ k o = some b := by
  cases r with
  | inl a => exact Or.inl ⟨a, rfl, h⟩
  | inr o => exact Or.inr ⟨o, rfl, h⟩
def lp {S R : Type} (step : S → Option (S ⊕ R)) : Nat → S → Option R
  | 0, _ => none
  | n + 1, s => match step s with
    | none => none
    | some (.inl t) => lp step n t
    | some (.inr r) => some r
def lpk {S R : Type} (step : S → Option (S ⊕ R)) (n : Nat) (t : S ⊕ R) : Option R := match t with
  | .inl s => lp step n s
  | .inr r => some r
theorem lp_some {S R : Type} {step : S → Option (S ⊕ R)} {n : Nat} {s : S} {r : R} (h : lp step (n + 1) s = some r) : ∃ t, step s = some t ∧ lpk step n t = some r := by
  unfold lp at h
  cases hs : step s with
  | none => rw [hs] at h; cases h
  | some t =>
    rw [hs] at h
    refine ⟨t, rfl, ?_⟩
    cases t with
    | inl s' => exact h
    | inr r' => exact h
theorem lp_inl {S R : Type} {step : S → Option (S ⊕ R)} {n : Nat} {s t : S} (h : step s = some (.inl t)) : lp step (n + 1) s = lp step n t := by
  show (match step s with | none => none | some (.inl t) => lp step n t | some (.inr r) => some r) = _
  rw [h]
theorem lp_inr {S R : Type} {step : S → Option (S ⊕ R)} {n : Nat} {s : S} {r : R} (h : step s = some (.inr r)) : lp step (n + 1) s = some r := by
  show (match step s with | none => none | some (.inl t) => lp step n t | some (.inr r) => some r) = _
  rw [h]
theorem lp_0 {S R : Type} {step : S → Option (S ⊕ R)} {s : S} {r : R} {P : Prop} (h : lp step 0 s = some r) : P := by cases h
/-- a loop by an invariant and a measure that falls -/
theorem lp_run {S R : Type} (step : S → Option (S ⊕ R)) (Inv : S → Prop) (mu : S → Nat) (Post : R → Prop)
    (hs : ∀ s, Inv s → (∃ t, step s = some (.inl t) ∧ Inv t ∧ mu t < mu s) ∨ ∃ r, step s = some (.inr r) ∧ Post r) :
    ∀ (n : Nat) (s : S), Inv s → mu s < n → ∃ r, lp step n s = some r ∧ Post r := by
  intro n
  induction n with
  | zero => intro s _ h; exact absurd h (Nat.not_lt_zero _)
  | succ n ih =>
    intro s hi hm
    rcases hs s hi with ⟨t, h1, h2, h3⟩ | ⟨r, h1, h2⟩
    · rw [lp_inl h1]
      exact ih t h2 (by omega)
    · exact ⟨r, lp_inr h1, h2⟩
/-- .. counted upwards: from i to e -/
theorem lp_up {S R : Type} (step : S → Option (S ⊕ R)) (Inv : Nat → S → Prop) (Post : R → Prop) (e : Nat)
    (hs : ∀ i s, i ≤ e → Inv i s → (i < e ∧ ∃ t, step s = some (.inl t) ∧ Inv (i + 1) t) ∨ ∃ r, step s = some (.inr r) ∧ Post r) :
    ∀ (n i : Nat) (s : S), i ≤ e → Inv i s → e - i < n → ∃ r, lp step n s = some r ∧ Post r := by
  intro n
  induction n with
  | zero => intro i s _ _ h; exact absurd h (Nat.not_lt_zero _)
  | succ n ih =>
    intro i s hi hI hm
    rcases hs i s hi hI with ⟨h0, t, h1, h2⟩ | ⟨r, h1, h2⟩
    · rw [lp_inl h1]
      exact ih (i + 1) t h0 h2 (by omega)
    · exact ⟨r, lp_inr h1, h2⟩
def un2 {A1 A2 B : Type} (f : A1 → A2 → B) (t : A1 × A2) : B := f t.1 t.2
theorem un2_mk {A1 A2 B : Type} (f : A1 → A2 → B) (x1 : A1) (x2 : A2) : un2 f (x1, x2) = f x1 x2 := rfl
theorem cb2_some {A1 A2 B : Type} {x : Option (A1 × A2)} {f : A1 → A2 → Option B} {o : B} (h : cb x (un2 f) = some o) : ∃ x1 x2, x = some (x1, x2) ∧ f x1 x2 = some o := by
  obtain ⟨⟨x1, x2⟩, h1, h2⟩ := cb_some h
  exact ⟨x1, x2, h1, h2⟩
theorem ek2_some {A1 A2 O B : Type} {r : (A1 × A2) ⊕ O} {f : A1 → A2 → Option B} {k : O → Option B} {b : B} (h : ek r (un2 f) k = some b) : (∃ x1 x2, r = .inl (x1, x2) ∧ f x1 x2 = some b) ∨ ∃ o, r = .inr o ∧ k o = some b := by
  rcases r with ⟨x1, x2⟩ | o
  · exact Or.inl ⟨x1, x2, rfl, h⟩
  · exact Or.inr ⟨o, rfl, h⟩
def un3 {A1 A2 A3 B : Type} (f : A1 → A2 → A3 → B) (t : A1 × A2 × A3) : B := f t.1 t.2.1 t.2.2
theorem un3_mk {A1 A2 A3 B : Type} (f : A1 → A2 → A3 → B) (x1 : A1) (x2 : A2) (x3 : A3) : un3 f (x1, x2, x3) = f x1 x2 x3 := rfl
theorem cb3_some {A1 A2 A3 B : Type} {x : Option (A1 × A2 × A3)} {f : A1 → A2 → A3 → Option B} {o : B} (h : cb x (un3 f) = some o) : ∃ x1 x2 x3, x = some (x1, x2, x3) ∧ f x1 x2 x3 = some o := by
  obtain ⟨⟨x1, x2, x3⟩, h1, h2⟩ := cb_some h
  exact ⟨x1, x2, x3, h1, h2⟩
theorem ek3_some {A1 A2 A3 O B : Type} {r : (A1 × A2 × A3) ⊕ O} {f : A1 → A2 → A3 → Option B} {k : O → Option B} {b : B} (h : ek r (un3 f) k = some b) : (∃ x1 x2 x3, r = .inl (x1, x2, x3) ∧ f x1 x2 x3 = some b) ∨ ∃ o, r = .inr o ∧ k o = some b := by
  rcases r with ⟨x1, x2, x3⟩ | o
  · exact Or.inl ⟨x1, x2, x3, rfl, h⟩
  · exact Or.inr ⟨o, rfl, h⟩
def un4 {A1 A2 A3 A4 B : Type} (f : A1 → A2 → A3 → A4 → B) (t : A1 × A2 × A3 × A4) : B := f t.1 t.2.1 t.2.2.1 t.2.2.2
theorem un4_mk {A1 A2 A3 A4 B : Type} (f : A1 → A2 → A3 → A4 → B) (x1 : A1) (x2 : A2) (x3 : A3) (x4 : A4) : un4 f (x1, x2, x3, x4) = f x1 x2 x3 x4 := rfl
theorem cb4_some {A1 A2 A3 A4 B : Type} {x : Option (A1 × A2 × A3 × A4)} {f : A1 → A2 → A3 → A4 → Option B} {o : B} (h : cb x (un4 f) = some o) : ∃ x1 x2 x3 x4, x = some (x1, x2, x3, x4) ∧ f x1 x2 x3 x4 = some o := by
  obtain ⟨⟨x1, x2, x3, x4⟩, h1, h2⟩ := cb_some h
  exact ⟨x1, x2, x3, x4, h1, h2⟩
theorem ek4_some {A1 A2 A3 A4 O B : Type} {r : (A1 × A2 × A3 × A4) ⊕ O} {f : A1 → A2 → A3 → A4 → Option B} {k : O → Option B} {b : B} (h : ek r (un4 f) k = some b) : (∃ x1 x2 x3 x4, r = .inl (x1, x2, x3, x4) ∧ f x1 x2 x3 x4 = some b) ∨ ∃ o, r = .inr o ∧ k o = some b := by
  rcases r with ⟨x1, x2, x3, x4⟩ | o
  · exact Or.inl ⟨x1, x2, x3, x4, rfl, h⟩
  · exact Or.inr ⟨o, rfl, h⟩
def un5 {A1 A2 A3 A4 A5 B : Type} (f : A1 → A2 → A3 → A4 → A5 → B) (t : A1 × A2 × A3 × A4 × A5) : B := f t.1 t.2.1 t.2.2.1 t.2.2.2.1 t.2.2.2.2
theorem un5_mk {A1 A2 A3 A4 A5 B : Type} (f : A1 → A2 → A3 → A4 → A5 → B) (x1 : A1) (x2 : A2) (x3 : A3) (x4 : A4) (x5 : A5) : un5 f (x1, x2, x3, x4, x5) = f x1 x2 x3 x4 x5 := rfl
theorem cb5_some {A1 A2 A3 A4 A5 B : Type} {x : Option (A1 × A2 × A3 × A4 × A5)} {f : A1 → A2 → A3 → A4 → A5 → Option B} {o : B} (h : cb x (un5 f) = some o) : ∃ x1 x2 x3 x4 x5, x = some (x1, x2, x3, x4, x5) ∧ f x1 x2 x3 x4 x5 = some o := by
  obtain ⟨⟨x1, x2, x3, x4, x5⟩, h1, h2⟩ := cb_some h
  exact ⟨x1, x2, x3, x4, x5, h1, h2⟩
theorem ek5_some {A1 A2 A3 A4 A5 O B : Type} {r : (A1 × A2 × A3 × A4 × A5) ⊕ O} {f : A1 → A2 → A3 → A4 → A5 → Option B} {k : O → Option B} {b : B} (h : ek r (un5 f) k = some b) : (∃ x1 x2 x3 x4 x5, r = .inl (x1, x2, x3, x4, x5) ∧ f x1 x2 x3 x4 x5 = some b) ∨ ∃ o, r = .inr o ∧ k o = some b := by
  rcases r with ⟨x1, x2, x3, x4, x5⟩ | o
  · exact Or.inl ⟨x1, x2, x3, x4, x5, rfl, h⟩
  · exact Or.inr ⟨o, rfl, h⟩
def un6 {A1 A2 A3 A4 A5 A6 B : Type} (f : A1 → A2 → A3 → A4 → A5 → A6 → B) (t : A1 × A2 × A3 × A4 × A5 × A6) : B := f t.1 t.2.1 t.2.2.1 t.2.2.2.1 t.2.2.2.2.1 t.2.2.2.2.2
theorem un6_mk {A1 A2 A3 A4 A5 A6 B : Type} (f : A1 → A2 → A3 → A4 → A5 → A6 → B) (x1 : A1) (x2 : A2) (x3 : A3) (x4 : A4) (x5 : A5) (x6 : A6) : un6 f (x1, x2, x3, x4, x5, x6) = f x1 x2 x3 x4 x5 x6 := rfl
theorem cb6_some {A1 A2 A3 A4 A5 A6 B : Type} {x : Option (A1 × A2 × A3 × A4 × A5 × A6)} {f : A1 → A2 → A3 → A4 → A5 → A6 → Option B} {o : B} (h : cb x (un6 f) = some o) : ∃ x1 x2 x3 x4 x5 x6, x = some (x1, x2, x3, x4, x5, x6) ∧ f x1 x2 x3 x4 x5 x6 = some o := by
  obtain ⟨⟨x1, x2, x3, x4, x5, x6⟩, h1, h2⟩ := cb_some h
  exact ⟨x1, x2, x3, x4, x5, x6, h1, h2⟩
theorem ek6_some {A1 A2 A3 A4 A5 A6 O B : Type} {r : (A1 × A2 × A3 × A4 × A5 × A6) ⊕ O} {f : A1 → A2 → A3 → A4 → A5 → A6 → Option B} {k : O → Option B} {b : B} (h : ek r (un6 f) k = some b) : (∃ x1 x2 x3 x4 x5 x6, r = .inl (x1, x2, x3, x4, x5, x6) ∧ f x1 x2 x3 x4 x5 x6 = some b) ∨ ∃ o, r = .inr o ∧ k o = some b := by
  rcases r with ⟨x1, x2, x3, x4, x5, x6⟩ | o
  · exact Or.inl ⟨x1, x2, x3, x4, x5, x6, rfl, h⟩
  · exact Or.inr ⟨o, rfl, h⟩
def un7 {A1 A2 A3 A4 A5 A6 A7 B : Type} (f : A1 → A2 → A3 → A4 → A5 → A6 → A7 → B) (t : A1 × A2 × A3 × A4 × A5 × A6 × A7) : B := f t.1 t.2.1 t.2.2.1 t.2.2.2.1 t.2.2.2.2.1 t.2.2.2.2.2.1 t.2.2.2.2.2.2
theorem un7_mk {A1 A2 A3 A4 A5 A6 A7 B : Type} (f : A1 → A2 → A3 → A4 → A5 → A6 → A7 → B) (x1 : A1) (x2 : A2) (x3 : A3) (x4 : A4) (x5 : A5) (x6 : A6) (x7 : A7) : un7 f (x1, x2, x3, x4, x5, x6, x7) = f x1 x2 x3 x4 x5 x6 x7 := rfl
theorem cb7_some {A1 A2 A3 A4 A5 A6 A7 B : Type} {x : Option (A1 × A2 × A3 × A4 × A5 × A6 × A7)} {f : A1 → A2 → A3 → A4 → A5 → A6 → A7 → Option B} {o : B} (h : cb x (un7 f) = some o) : ∃ x1 x2 x3 x4 x5 x6 x7, x = some (x1, x2, x3, x4, x5, x6, x7) ∧ f x1 x2 x3 x4 x5 x6 x7 = some o := by
  obtain ⟨⟨x1, x2, x3, x4, x5, x6, x7⟩, h1, h2⟩ := cb_some h
  exact ⟨x1, x2, x3, x4, x5, x6, x7, h1, h2⟩
theorem ek7_some {A1 A2 A3 A4 A5 A6 A7 O B : Type} {r : (A1 × A2 × A3 × A4 × A5 × A6 × A7) ⊕ O} {f : A1 → A2 → A3 → A4 → A5 → A6 → A7 → Option B} {k : O → Option B} {b : B} (h : ek r (un7 f) k = some b) : (∃ x1 x2 x3 x4 x5 x6 x7, r = .inl (x1, x2, x3, x4, x5, x6, x7) ∧ f x1 x2 x3 x4 x5 x6 x7 = some b) ∨ ∃ o, r = .inr o ∧ k o = some b := by
  rcases r with ⟨x1, x2, x3, x4, x5, x6, x7⟩ | o
  · exact Or.inl ⟨x1, x2, x3, x4, x5, x6, x7, rfl, h⟩
  · exact Or.inr ⟨o, rfl, h⟩
def un8 {A1 A2 A3 A4 A5 A6 A7 A8 B : Type} (f : A1 → A2 → A3 → A4 → A5 → A6 → A7 → A8 → B) (t : A1 × A2 × A3 × A4 × A5 × A6 × A7 × A8) : B := f t.1 t.2.1 t.2.2.1 t.2.2.2.1 t.2.2.2.2.1 t.2.2.2.2.2.1 t.2.2.2.2.2.2.1 t.2.2.2.2.2.2.2
theorem un8_mk {A1 A2 A3 A4 A5 A6 A7 A8 B : Type} (f : A1 → A2 → A3 → A4 → A5 → A6 → A7 → A8 → B) (x1 : A1) (x2 : A2) (x3 : A3) (x4 : A4) (x5 : A5) (x6 : A6) (x7 : A7) (x8 : A8) : un8 f (x1, x2, x3, x4, x5, x6, x7, x8) = f x1 x2 x3 x4 x5 x6 x7 x8 := rfl
theorem cb8_some {A1 A2 A3 A4 A5 A6 A7 A8 B : Type} {x : Option (A1 × A2 × A3 × A4 × A5 × A6 × A7 × A8)} {f : A1 → A2 → A3 → A4 → A5 → A6 → A7 → A8 → Option B} {o : B} (h : cb x (un8 f) = some o) : ∃ x1 x2 x3 x4 x5 x6 x7 x8, x = some (x1, x2, x3, x4, x5, x6, x7, x8) ∧ f x1 x2 x3 x4 x5 x6 x7 x8 = some o := by
  obtain ⟨⟨x1, x2, x3, x4, x5, x6, x7, x8⟩, h1, h2⟩ := cb_some h
  exact ⟨x1, x2, x3, x4, x5, x6, x7, x8, h1, h2⟩
theorem ek8_some {A1 A2 A3 A4 A5 A6 A7 A8 O B : Type} {r : (A1 × A2 × A3 × A4 × A5 × A6 × A7 × A8) ⊕ O} {f : A1 → A2 → A3 → A4 → A5 → A6 → A7 → A8 → Option B} {k : O → Option B} {b : B} (h : ek r (un8 f) k = some b) : (∃ x1 x2 x3 x4 x5 x6 x7 x8, r = .inl (x1, x2, x3, x4, x5, x6, x7, x8) ∧ f x1 x2 x3 x4 x5 x6 x7 x8 = some b) ∨ ∃ o, r = .inr o ∧ k o = some b := by
  rcases r with ⟨x1, x2, x3, x4, x5, x6, x7, x8⟩ | o
  · exact Or.inl ⟨x1, x2, x3, x4, x5, x6, x7, x8, rfl, h⟩
  · exact Or.inr ⟨o, rfl, h⟩
def un9 {A1 A2 A3 A4 A5 A6 A7 A8 A9 B : Type} (f : A1 → A2 → A3 → A4 → A5 → A6 → A7 → A8 → A9 → B) (t : A1 × A2 × A3 × A4 × A5 × A6 × A7 × A8 × A9) : B := f t.1 t.2.1 t.2.2.1 t.2.2.2.1 t.2.2.2.2.1 t.2.2.2.2.2.1 t.2.2.2.2.2.2.1 t.2.2.2.2.2.2.2.1 t.2.2.2.2.2.2.2.2
theorem un9_mk {A1 A2 A3 A4 A5 A6 A7 A8 A9 B : Type} (f : A1 → A2 → A3 → A4 → A5 → A6 → A7 → A8 → A9 → B) (x1 : A1) (x2 : A2) (x3 : A3) (x4 : A4) (x5 : A5) (x6 : A6) (x7 : A7) (x8 : A8) (x9 : A9) : un9 f (x1, x2, x3, x4, x5, x6, x7, x8, x9) = f x1 x2 x3 x4 x5 x6 x7 x8 x9 := rfl
theorem cb9_some {A1 A2 A3 A4 A5 A6 A7 A8 A9 B : Type} {x : Option (A1 × A2 × A3 × A4 × A5 × A6 × A7 × A8 × A9)} {f : A1 → A2 → A3 → A4 → A5 → A6 → A7 → A8 → A9 → Option B} {o : B} (h : cb x (un9 f) = some o) : ∃ x1 x2 x3 x4 x5 x6 x7 x8 x9, x = some (x1, x2, x3, x4, x5, x6, x7, x8, x9) ∧ f x1 x2 x3 x4 x5 x6 x7 x8 x9 = some o := by
  obtain ⟨⟨x1, x2, x3, x4, x5, x6, x7, x8, x9⟩, h1, h2⟩ := cb_some h
  exact ⟨x1, x2, x3, x4, x5, x6, x7, x8, x9, h1, h2⟩
theorem ek9_some {A1 A2 A3 A4 A5 A6 A7 A8 A9 O B : Type} {r : (A1 × A2 × A3 × A4 × A5 × A6 × A7 × A8 × A9) ⊕ O} {f : A1 → A2 → A3 → A4 → A5 → A6 → A7 → A8 → A9 → Option B} {k : O → Option B} {b : B} (h : ek r (un9 f) k = some b) : (∃ x1 x2 x3 x4 x5 x6 x7 x8 x9, r = .inl (x1, x2, x3, x4, x5, x6, x7, x8, x9) ∧ f x1 x2 x3 x4 x5 x6 x7 x8 x9 = some b) ∨ ∃ o, r = .inr o ∧ k o = some b := by
  rcases r with ⟨x1, x2, x3, x4, x5, x6, x7, x8, x9⟩ | o
  · exact Or.inl ⟨x1, x2, x3, x4, x5, x6, x7, x8, x9, rfl, h⟩
  · exact Or.inr ⟨o, rfl, h⟩
def un10 {A1 A2 A3 A4 A5 A6 A7 A8 A9 A10 B : Type} (f : A1 → A2 → A3 → A4 → A5 → A6 → A7 → A8 → A9 → A10 → B) (t : A1 × A2 × A3 × A4 × A5 × A6 × A7 × A8 × A9 × A10) : B := f t.1 t.2.1 t.2.2.1 t.2.2.2.1 t.2.2.2.2.1 t.2.2.2.2.2.1 t.2.2.2.2.2.2.1 t.2.2.2.2.2.2.2.1 t.2.2.2.2.2.2.2.2.1 t.2.2.2.2.2.2.2.2.2
theorem un10_mk {A1 A2 A3 A4 A5 A6 A7 A8 A9 A10 B : Type} (f : A1 → A2 → A3 → A4 → A5 → A6 → A7 → A8 → A9 → A10 → B) (x1 : A1) (x2 : A2) (x3 : A3) (x4 : A4) (x5 : A5) (x6 : A6) (x7 : A7) (x8 : A8) (x9 : A9) (x10 : A10) : un10 f (x1, x2, x3, x4, x5, x6, x7, x8, x9, x10) = f x1 x2 x3 x4 x5 x6 x7 x8 x9 x10 := rfl
theorem cb10_some {A1 A2 A3 A4 A5 A6 A7 A8 A9 A10 B : Type} {x : Option (A1 × A2 × A3 × A4 × A5 × A6 × A7 × A8 × A9 × A10)} {f : A1 → A2 → A3 → A4 → A5 → A6 → A7 → A8 → A9 → A10 → Option B} {o : B} (h : cb x (un10 f) = some o) : ∃ x1 x2 x3 x4 x5 x6 x7 x8 x9 x10, x = some (x1, x2, x3, x4, x5, x6, x7, x8, x9, x10) ∧ f x1 x2 x3 x4 x5 x6 x7 x8 x9 x10 = some o := by
  obtain ⟨⟨x1, x2, x3, x4, x5, x6, x7, x8, x9, x10⟩, h1, h2⟩ := cb_some h
  exact ⟨x1, x2, x3, x4, x5, x6, x7, x8, x9, x10, h1, h2⟩
theorem ek10_some {A1 A2 A3 A4 A5 A6 A7 A8 A9 A10 O B : Type} {r : (A1 × A2 × A3 × A4 × A5 × A6 × A7 × A8 × A9 × A10) ⊕ O} {f : A1 → A2 → A3 → A4 → A5 → A6 → A7 → A8 → A9 → A10 → Option B} {k : O → Option B} {b : B} (h : ek r (un10 f) k = some b) : (∃ x1 x2 x3 x4 x5 x6 x7 x8 x9 x10, r = .inl (x1, x2, x3, x4, x5, x6, x7, x8, x9, x10) ∧ f x1 x2 x3 x4 x5 x6 x7 x8 x9 x10 = some b) ∨ ∃ o, r = .inr o ∧ k o = some b := by
  rcases r with ⟨x1, x2, x3, x4, x5, x6, x7, x8, x9, x10⟩ | o
  · exact Or.inl ⟨x1, x2, x3, x4, x5, x6, x7, x8, x9, x10, rfl, h⟩
  · exact Or.inr ⟨o, rfl, h⟩
def un11 {A1 A2 A3 A4 A5 A6 A7 A8 A9 A10 A11 B : Type} (f : A1 → A2 → A3 → A4 → A5 → A6 → A7 → A8 → A9 → A10 → A11 → B) (t : A1 × A2 × A3 × A4 × A5 × A6 × A7 × A8 × A9 × A10 × A11) : B := f t.1 t.2.1 t.2.2.1 t.2.2.2.1 t.2.2.2.2.1 t.2.2.2.2.2.1 t.2.2.2.2.2.2.1 t.2.2.2.2.2.2.2.1 t.2.2.2.2.2.2.2.2.1 t.2.2.2.2.2.2.2.2.2.1 t.2.2.2.2.2.2.2.2.2.2
theorem un11_mk {A1 A2 A3 A4 A5 A6 A7 A8 A9 A10 A11 B : Type} (f : A1 → A2 → A3 → A4 → A5 → A6 → A7 → A8 → A9 → A10 → A11 → B) (x1 : A1) (x2 : A2) (x3 : A3) (x4 : A4) (x5 : A5) (x6 : A6) (x7 : A7) (x8 : A8) (x9 : A9) (x10 : A10) (x11 : A11) : un11 f (x1, x2, x3, x4, x5, x6, x7, x8, x9, x10, x11) = f x1 x2 x3 x4 x5 x6 x7 x8 x9 x10 x11 := rfl
theorem cb11_some {A1 A2 A3 A4 A5 A6 A7 A8 A9 A10 A11 B : Type} {x : Option (A1 × A2 × A3 × A4 × A5 × A6 × A7 × A8 × A9 × A10 × A11)} {f : A1 → A2 → A3 → A4 → A5 → A6 → A7 → A8 → A9 → A10 → A11 → Option B} {o : B} (h : cb x (un11 f) = some o) : ∃ x1 x2 x3 x4 x5 x6 x7 x8 x9 x10 x11, x = some (x1, x2, x3, x4, x5, x6, x7, x8, x9, x10, x11) ∧ f x1 x2 x3 x4 x5 x6 x7 x8 x9 x10 x11 = some o := by
  obtain ⟨⟨x1, x2, x3, x4, x5, x6, x7, x8, x9, x10, x11⟩, h1, h2⟩ := cb_some h
  exact ⟨x1, x2, x3, x4, x5, x6, x7, x8, x9, x10, x11, h1, h2⟩
theorem ek11_some {A1 A2 A3 A4 A5 A6 A7 A8 A9 A10 A11 O B : Type} {r : (A1 × A2 × A3 × A4 × A5 × A6 × A7 × A8 × A9 × A10 × A11) ⊕ O} {f : A1 → A2 → A3 → A4 → A5 → A6 → A7 → A8 → A9 → A10 → A11 → Option B} {k : O → Option B} {b : B} (h : ek r (un11 f) k = some b) : (∃ x1 x2 x3 x4 x5 x6 x7 x8 x9 x10 x11, r = .inl (x1, x2, x3, x4, x5, x6, x7, x8, x9, x10, x11) ∧ f x1 x2 x3 x4 x5 x6 x7 x8 x9 x10 x11 = some b) ∨ ∃ o, r = .inr o ∧ k o = some b := by
  rcases r with ⟨x1, x2, x3, x4, x5, x6, x7, x8, x9, x10, x11⟩ | o
  · exact Or.inl ⟨x1, x2, x3, x4, x5, x6, x7, x8, x9, x10, x11, rfl, h⟩
  · exact Or.inr ⟨o, rfl, h⟩
def un12 {A1 A2 A3 A4 A5 A6 A7 A8 A9 A10 A11 A12 B : Type} (f : A1 → A2 → A3 → A4 → A5 → A6 → A7 → A8 → A9 → A10 → A11 → A12 → B) (t : A1 × A2 × A3 × A4 × A5 × A6 × A7 × A8 × A9 × A10 × A11 × A12) : B := f t.1 t.2.1 t.2.2.1 t.2.2.2.1 t.2.2.2.2.1 t.2.2.2.2.2.1 t.2.2.2.2.2.2.1 t.2.2.2.2.2.2.2.1 t.2.2.2.2.2.2.2.2.1 t.2.2.2.2.2.2.2.2.2.1 t.2.2.2.2.2.2.2.2.2.2.1 t.2.2.2.2.2.2.2.2.2.2.2
theorem un12_mk {A1 A2 A3 A4 A5 A6 A7 A8 A9 A10 A11 A12 B : Type} (f : A1 → A2 → A3 → A4 → A5 → A6 → A7 → A8 → A9 → A10 → A11 → A12 → B) (x1 : A1) (x2 : A2) (x3 : A3) (x4 : A4) (x5 : A5) (x6 : A6) (x7 : A7) (x8 : A8) (x9 : A9) (x10 : A10) (x11 : A11) (x12 : A12) : un12 f (x1, x2, x3, x4, x5, x6, x7, x8, x9, x10, x11, x12) = f x1 x2 x3 x4 x5 x6 x7 x8 x9 x10 x11 x12 := rfl
theorem cb12_some {A1 A2 A3 A4 A5 A6 A7 A8 A9 A10 A11 A12 B : Type} {x : Option (A1 × A2 × A3 × A4 × A5 × A6 × A7 × A8 × A9 × A10 × A11 × A12)} {f : A1 → A2 → A3 → A4 → A5 → A6 → A7 → A8 → A9 → A10 → A11 → A12 → Option B} {o : B} (h : cb x (un12 f) = some o) : ∃ x1 x2 x3 x4 x5 x6 x7 x8 x9 x10 x11 x12, x = some (x1, x2, x3, x4, x5, x6, x7, x8, x9, x10, x11, x12) ∧ f x1 x2 x3 x4 x5 x6 x7 x8 x9 x10 x11 x12 = some o := by
  obtain ⟨⟨x1, x2, x3, x4, x5, x6, x7, x8, x9, x10, x11, x12⟩, h1, h2⟩ := cb_some h
  exact ⟨x1, x2, x3, x4, x5, x6, x7, x8, x9, x10, x11, x12, h1, h2⟩
theorem ek12_some {A1 A2 A3 A4 A5 A6 A7 A8 A9 A10 A11 A12 O B : Type} {r : (A1 × A2 × A3 × A4 × A5 × A6 × A7 × A8 × A9 × A10 × A11 × A12) ⊕ O} {f : A1 → A2 → A3 → A4 → A5 → A6 → A7 → A8 → A9 → A10 → A11 → A12 → Option B} {k : O → Option B} {b : B} (h : ek r (un12 f) k = some b) : (∃ x1 x2 x3 x4 x5 x6 x7 x8 x9 x10 x11 x12, r = .inl (x1, x2, x3, x4, x5, x6, x7, x8, x9, x10, x11, x12) ∧ f x1 x2 x3 x4 x5 x6 x7 x8 x9 x10 x11 x12 = some b) ∨ ∃ o, r = .inr o ∧ k o = some b := by
  rcases r with ⟨x1, x2, x3, x4, x5, x6, x7, x8, x9, x10, x11, x12⟩ | o
  · exact Or.inl ⟨x1, x2, x3, x4, x5, x6, x7, x8, x9, x10, x11, x12, rfl, h⟩
  · exact Or.inr ⟨o, rfl, h⟩
def un13 {A1 A2 A3 A4 A5 A6 A7 A8 A9 A10 A11 A12 A13 B : Type} (f : A1 → A2 → A3 → A4 → A5 → A6 → A7 → A8 → A9 → A10 → A11 → A12 → A13 → B) (t : A1 × A2 × A3 × A4 × A5 × A6 × A7 × A8 × A9 × A10 × A11 × A12 × A13) : B := f t.1 t.2.1 t.2.2.1 t.2.2.2.1 t.2.2.2.2.1 t.2.2.2.2.2.1 t.2.2.2.2.2.2.1 t.2.2.2.2.2.2.2.1 t.2.2.2.2.2.2.2.2.1 t.2.2.2.2.2.2.2.2.2.1 t.2.2.2.2.2.2.2.2.2.2.1 t.2.2.2.2.2.2.2.2.2.2.2.1 t.2.2.2.2.2.2.2.2.2.2.2.2
theorem un13_mk {A1 A2 A3 A4 A5 A6 A7 A8 A9 A10 A11 A12 A13 B : Type} (f : A1 → A2 → A3 → A4 → A5 → A6 → A7 → A8 → A9 → A10 → A11 → A12 → A13 → B) (x1 : A1) (x2 : A2) (x3 : A3) (x4 : A4) (x5 : A5) (x6 : A6) (x7 : A7) (x8 : A8) (x9 : A9) (x10 : A10) (x11 : A11) (x12 : A12) (x13 : A13) : un13 f (x1, x2, x3, x4, x5, x6, x7, x8, x9, x10, x11, x12, x13) = f x1 x2 x3 x4 x5 x6 x7 x8 x9 x10 x11 x12 x13 := rfl
theorem cb13_some {A1 A2 A3 A4 A5 A6 A7 A8 A9 A10 A11 A12 A13 B : Type} {x : Option (A1 × A2 × A3 × A4 × A5 × A6 × A7 × A8 × A9 × A10 × A11 × A12 × A13)} {f : A1 → A2 → A3 → A4 → A5 → A6 → A7 → A8 → A9 → A10 → A11 → A12 → A13 → Option B} {o : B} (h : cb x (un13 f) = some o) : ∃ x1 x2 x3 x4 x5 x6 x7 x8 x9 x10 x11 x12 x13, x = some (x1, x2, x3, x4, x5, x6, x7, x8, x9, x10, x11, x12, x13) ∧ f x1 x2 x3 x4 x5 x6 x7 x8 x9 x10 x11 x12 x13 = some o := by
  obtain ⟨⟨x1, x2, x3, x4, x5, x6, x7, x8, x9, x10, x11, x12, x13⟩, h1, h2⟩ := cb_some h
  exact ⟨x1, x2, x3, x4, x5, x6, x7, x8, x9, x10, x11, x12, x13, h1, h2⟩
theorem ek13_some {A1 A2 A3 A4 A5 A6 A7 A8 A9 A10 A11 A12 A13 O B : Type} {r : (A1 × A2 × A3 × A4 × A5 × A6 × A7 × A8 × A9 × A10 × A11 × A12 × A13) ⊕ O} {f : A1 → A2 → A3 → A4 → A5 → A6 → A7 → A8 → A9 → A10 → A11 → A12 → A13 → Option B} {k : O → Option B} {b : B} (h : ek r (un13 f) k = some b) : (∃ x1 x2 x3 x4 x5 x6 x7 x8 x9 x10 x11 x12 x13, r = .inl (x1, x2, x3, x4, x5, x6, x7, x8, x9, x10, x11, x12, x13) ∧ f x1 x2 x3 x4 x5 x6 x7 x8 x9 x10 x11 x12 x13 = some b) ∨ ∃ o, r = .inr o ∧ k o = some b := by
  rcases r with ⟨x1, x2, x3, x4, x5, x6, x7, x8, x9, x10, x11, x12, x13⟩ | o
  · exact Or.inl ⟨x1, x2, x3, x4, x5, x6, x7, x8, x9, x10, x11, x12, x13, rfl, h⟩
  · exact Or.inr ⟨o, rfl, h⟩
def un14 {A1 A2 A3 A4 A5 A6 A7 A8 A9 A10 A11 A12 A13 A14 B : Type} (f : A1 → A2 → A3 → A4 → A5 → A6 → A7 → A8 → A9 → A10 → A11 → A12 → A13 → A14 → B) (t : A1 × A2 × A3 × A4 × A5 × A6 × A7 × A8 × A9 × A10 × A11 × A12 × A13 × A14) : B := f t.1 t.2.1 t.2.2.1 t.2.2.2.1 t.2.2.2.2.1 t.2.2.2.2.2.1 t.2.2.2.2.2.2.1 t.2.2.2.2.2.2.2.1 t.2.2.2.2.2.2.2.2.1 t.2.2.2.2.2.2.2.2.2.1 t.2.2.2.2.2.2.2.2.2.2.1 t.2.2.2.2.2.2.2.2.2.2.2.1 t.2.2.2.2.2.2.2.2.2.2.2.2.1 t.2.2.2.2.2.2.2.2.2.2.2.2.2
theorem un14_mk {A1 A2 A3 A4 A5 A6 A7 A8 A9 A10 A11 A12 A13 A14 B : Type} (f : A1 → A2 → A3 → A4 → A5 → A6 → A7 → A8 → A9 → A10 → A11 → A12 → A13 → A14 → B) (x1 : A1) (x2 : A2) (x3 : A3) (x4 : A4) (x5 : A5) (x6 : A6) (x7 : A7) (x8 : A8) (x9 : A9) (x10 : A10) (x11 : A11) (x12 : A12) (x13 : A13) (x14 : A14) : un14 f (x1, x2, x3, x4, x5, x6, x7, x8, x9, x10, x11, x12, x13, x14) = f x1 x2 x3 x4 x5 x6 x7 x8 x9 x10 x11 x12 x13 x14 := rfl
theorem cb14_some {A1 A2 A3 A4 A5 A6 A7 A8 A9 A10 A11 A12 A13 A14 B : Type} {x : Option (A1 × A2 × A3 × A4 × A5 × A6 × A7 × A8 × A9 × A10 × A11 × A12 × A13 × A14)} {f : A1 → A2 → A3 → A4 → A5 → A6 → A7 → A8 → A9 → A10 → A11 → A12 → A13 → A14 → Option B} {o : B} (h : cb x (un14 f) = some o) : ∃ x1 x2 x3 x4 x5 x6 x7 x8 x9 x10 x11 x12 x13 x14, x = some (x1, x2, x3, x4, x5, x6, x7, x8, x9, x10, x11, x12, x13, x14) ∧ f x1 x2 x3 x4 x5 x6 x7 x8 x9 x10 x11 x12 x13 x14 = some o := by
  obtain ⟨⟨x1, x2, x3, x4, x5, x6, x7, x8, x9, x10, x11, x12, x13, x14⟩, h1, h2⟩ := cb_some h
  exact ⟨x1, x2, x3, x4, x5, x6, x7, x8, x9, x10, x11, x12, x13, x14, h1, h2⟩
theorem ek14_some {A1 A2 A3 A4 A5 A6 A7 A8 A9 A10 A11 A12 A13 A14 O B : Type} {r : (A1 × A2 × A3 × A4 × A5 × A6 × A7 × A8 × A9 × A10 × A11 × A12 × A13 × A14) ⊕ O} {f : A1 → A2 → A3 → A4 → A5 → A6 → A7 → A8 → A9 → A10 → A11 → A12 → A13 → A14 → Option B} {k : O → Option B} {b : B} (h : ek r (un14 f) k = some b) : (∃ x1 x2 x3 x4 x5 x6 x7 x8 x9 x10 x11 x12 x13 x14, r = .inl (x1, x2, x3, x4, x5, x6, x7, x8, x9, x10, x11, x12, x13, x14) ∧ f x1 x2 x3 x4 x5 x6 x7 x8 x9 x10 x11 x12 x13 x14 = some b) ∨ ∃ o, r = .inr o ∧ k o = some b := by
  rcases r with ⟨x1, x2, x3, x4, x5, x6, x7, x8, x9, x10, x11, x12, x13, x14⟩ | o
  · exact Or.inl ⟨x1, x2, x3, x4, x5, x6, x7, x8, x9, x10, x11, x12, x13, x14, rfl, h⟩
  · exact Or.inr ⟨o, rfl, h⟩
/-! THE WORLD OF A SIDE: cells by numbers (ids); kinds, lengths, references; ints, longs -/
abbrev Sh : Type := Nat × (Nat → Nat) × (Nat → Nat) × (Nat → Nat → Option Nat)
abbrev MI : Type := Nat → Nat → Int32
abbrev MJ : Type := Nat → Nat → Int64
def sX (g : Sh) : Nat := g.1
def sK (g : Sh) (i : Nat) : Nat := g.2.1 i
def sN (g : Sh) (i : Nat) : Nat := g.2.2.1 i
def sR (g : Sh) (i k : Nat) : Option Nat := g.2.2.2 i k
def u2 {A : Type} (I : Nat → Nat → A) (i k : Nat) (v : A) : Nat → Nat → A := fun a b => if a = i ∧ b = k then v else I a b
def uR (g : Sh) (i k : Nat) (o : Option Nat) : Sh := (g.1, g.2.1, g.2.2.1, u2 g.2.2.2 i k o)
def uA (g : Sh) (kd n : Nat) : Sh := (g.1 + 1, fun a => if a = g.1 then kd else g.2.1 a, fun a => if a = g.1 then n else g.2.2.1 a, g.2.2.2)
theorem u2_self {A : Type} (I : Nat → Nat → A) (i k : Nat) (v : A) : u2 I i k v i k = v := if_pos ⟨rfl, rfl⟩
theorem u2_ne {A : Type} (I : Nat → Nat → A) {i k a b : Nat} (v : A) (h : ¬ (a = i ∧ b = k)) : u2 I i k v a b = I a b := if_neg h
theorem sX_uR (g : Sh) (i k : Nat) (o : Option Nat) : sX (uR g i k o) = sX g := rfl
theorem sK_uR (g : Sh) (i k : Nat) (o : Option Nat) (a : Nat) : sK (uR g i k o) a = sK g a := rfl
theorem sN_uR (g : Sh) (i k : Nat) (o : Option Nat) (a : Nat) : sN (uR g i k o) a = sN g a := rfl
theorem sR_uR (g : Sh) (i k : Nat) (o : Option Nat) (a b : Nat) : sR (uR g i k o) a b = if a = i ∧ b = k then o else sR g a b := rfl
theorem sX_uA (g : Sh) (kd n : Nat) : sX (uA g kd n) = sX g + 1 := rfl
theorem sK_uA (g : Sh) (kd n a : Nat) : sK (uA g kd n) a = if a = sX g then kd else sK g a := rfl
theorem sN_uA (g : Sh) (kd n a : Nat) : sN (uA g kd n) a = if a = sX g then n else sN g a := rfl
theorem sR_uA (g : Sh) (kd n a b : Nat) : sR (uA g kd n) a b = sR g a b := rfl
def txA : String := " oath from course mason slip find lays costs at by year go back knock note turn when loop stop end hollow full noted first stone "
def txB : String := ";<>="
def txB0 : List (List Int32) := [(txA.toList.map fun ch => Int32.ofNat ch.toNat), (txB.toList.map fun ch => Int32.ofNat ch.toNat)]
def txN : List Nat := [129, 4]
def irem (x y : Int32) : Int32 := x - x / y * y
def lrem (x y : Int64) : Int64 := x - x / y * y
abbrev inb (x : Int32) (n : Nat) : Prop := ¬ (x < 0 ∨ n ≤ x.toNatClampNeg)
def lmin (x y : Int64) : Int64 := if y < x then y else x
def lmax (x y : Int64) : Int64 := if y < x then x else y
def labs (x : Int64) : Int64 := if 0 < x then x else -x
def imin (x y : Int32) : Int32 := if y < x then y else x
def imax (x y : Int32) : Int32 := if x < y then y else x
def cpI (I : MI) (i0 sp i1 dp n : Nat) : MI := fun a b => if a = i1 ∧ dp ≤ b ∧ b < dp + n then I i0 (sp + (b - dp)) else I a b
def cpJ (J : MJ) (i0 sp i1 dp n : Nat) : MJ := fun a b => if a = i1 ∧ dp ≤ b ∧ b < dp + n then J i0 (sp + (b - dp)) else J a b
def txC (i k : Nat) : Int32 := (txB0.getD i []).getD k 0
def iushr (x y : Int32) : Int32 := (x.toUInt32 >>> (y.toUInt32 &&& Int32.toUInt32 31)).toInt32
def nul {A : Type} (r : Option Nat) (a : Option A) (f : Nat → Option A) : Option A := match r with
  | none => a
  | some j => f j
def jt {A B : Type} (o : Option A) (b z : Option Unit) (k : A → Option B) (kb kz : Option B) : Option B := match o with
  | some x => k x
  | none => if b = some () then kb else if z = some () then kz else none
theorem jt_some {A B : Type} {o : Option A} {b z : Option Unit} {k : A → Option B} {kb kz : Option B} {r : B} (h : jt o b z k kb kz = some r) : (∃ x, o = some x ∧ k x = some r) ∨ (b = some () ∧ kb = some r) ∨ (z = some () ∧ kz = some r) := by
  unfold jt at h
  cases o with
  | some x => exact Or.inl ⟨x, rfl, h⟩
  | none =>
    simp only at h
    by_cases h1 : b = some ()
    · rw [if_pos h1] at h; exact Or.inr (Or.inl ⟨h1, h⟩)
    · rw [if_neg h1] at h
      by_cases h2 : z = some ()
      · rw [if_pos h2] at h; exact Or.inr (Or.inr ⟨h2, h⟩)
      · rw [if_neg h2] at h; cases h
theorem jt2_some {A1 A2 B : Type} {o : Option (A1 × A2)} {b z : Option Unit} {k : A1 → A2 → Option B} {kb kz : Option B} {r : B} (h : jt o b z (un2 k) kb kz = some r) : (∃ x1 x2, o = some (x1, x2) ∧ k x1 x2 = some r) ∨ (b = some () ∧ kb = some r) ∨ (z = some () ∧ kz = some r) := by
  rcases jt_some h with ⟨⟨x1, x2⟩, h1, h2⟩ | h | h
  · exact Or.inl ⟨x1, x2, h1, h2⟩
  · exact Or.inr (Or.inl h)
  · exact Or.inr (Or.inr h)
def uM (g : Sh) (n k : Nat) : Sh := (g.1 + 1 + n, fun a => if a = g.1 then 42 else if g.1 < a ∧ a < g.1 + 1 + n then 32 else g.2.1 a, fun a => if a = g.1 then n else if g.1 < a ∧ a < g.1 + 1 + n then k else g.2.2.1 a, fun a b => if a = g.1 ∧ b < n then some (g.1 + 1 + b) else g.2.2.2 a b)
theorem sX_uM (g : Sh) (n k : Nat) : sX (uM g n k) = sX g + 1 + n := rfl
theorem sK_uM (g : Sh) (n k a : Nat) : sK (uM g n k) a = if a = sX g then 42 else if sX g < a ∧ a < sX g + 1 + n then 32 else sK g a := rfl
theorem sN_uM (g : Sh) (n k a : Nat) : sN (uM g n k) a = if a = sX g then n else if sX g < a ∧ a < sX g + 1 + n then k else sN g a := rfl
theorem sR_uM (g : Sh) (n k a b : Nat) : sR (uM g n k) a b = if a = sX g ∧ b < n then some (sX g + 1 + b) else sR g a b := rfl
abbrev FXe : Type := Nat × Nat × Nat × Nat × Nat × Nat × Nat × Nat
