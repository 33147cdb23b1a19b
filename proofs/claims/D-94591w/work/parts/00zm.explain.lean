set_option maxRecDepth 100000
/-! explain: a reading of the least cost, told slip by slip -/
/-- the count that a slip by b leads to -/
def nxt (B : Nat → Nat) (v b : Nat) : Nat := (v + b) % B 0 + 1
/-- whether a reading of the least cost goes on so from stone s (k stones behind the next) -/
def tk (B : Nat → Nat) (s v b : Nat) : Bool := decide (lst (pb B 0 (stn B - 2 - s) (s + 1) (nxt B v b)) 1000 + stp B (s + 1) v (nxt B v b) = lst (pb B 0 (stn B - 1 - s) s v) 1000)
def bq (B : Nat → Nat) (s v : Nat) : Nat := fi (fun b => tk B s v b) (B 0)
def fv (B : Nat → Nat) (fr : Bool) : Nat := fi (fun i => go B fr (i + 1) && decide (lst (pb B 0 (stn B - 1) 0 (i + 1)) 1000 = lof B 0 fr)) (B 0)
def vq (B : Nat → Nat) (fr : Bool) : Nat → Nat
  | 0 => fv B fr + 1
  | s + 1 => nxt B (vq B fr s) (bq B s (vq B fr s))
/-- what is told up to a stone -/
def tls2 (B : Nat → Nat) (fr : Bool) : Nat → List (Nat × Nat)
  | 0 => []
  | s + 1 => tls2 B fr s ++ (if bq B s (vq B fr s) = 0 then [] else [(s + 1, bq B s (vq B fr s))])
section EX
variable {g : Sh} {I : MI} {J : MJ} {S : Nat → Prop} {w : Nat} {B : Nat → Nat} {fr : Bool}
theorem nxt_bd (hw : WF B) (v b : Nat) : 1 ≤ nxt B v b ∧ nxt B v b ≤ B 0 := by
  have := hw.oath
  have := Nat.mod_lt (v + b) (y := B 0) (by omega)
  unfold nxt
  omega
theorem nxt_s (v b : Nat) : nxt B v b % B 0 + 1 = nxt B v (b + 1) := by
  unfold nxt
  rw [Nat.mod_add_mod, Nat.add_assoc]
theorem nxt_all (hw : WF B) {v d : Nat} (hv : 1 ≤ v ∧ v ≤ B 0) (hd : 1 ≤ d ∧ d ≤ B 0) : ∃ b, b < B 0 ∧ nxt B v b = d := by
  unfold nxt
  by_cases q : v ≤ d - 1
  · exact ⟨d - 1 - v, by omega, by rw [show v + (d - 1 - v) = d - 1 by omega, Nat.mod_eq_of_lt (by omega)]; omega⟩
  · exact ⟨d - 1 + B 0 - v, by omega, by rw [show v + (d - 1 + B 0 - v) = d - 1 + B 0 by omega, Nat.add_mod_right, Nat.mod_eq_of_lt (by omega)]; omega⟩
/-- a reading goes on -/
theorem bq_lt (hw : WF B) {s v : Nat} (hs : s + 1 < stn B) (hv : 1 ≤ v ∧ v ≤ B 0) (h : lst (pb B 0 (stn B - 1 - s) s v) 1000 < 1000) : bq B s v < B 0 ∧ tk B s v (bq B s v) = true := by
  have h0 := lst_at h
  have hsu : suit B s v = true := by
    cases q : suit B s v with
    | true => rfl
    | false => have := pb_sul (o := 0) (k := stn B - 1 - s) q; omega
  have key : ∃ b, b < B 0 ∧ tk B s v b = true := by
    have ek : stn B - 1 - s = stn B - 2 - s + 1 := by omega
    unfold tk
    rw [ek] at h h0 ⊢
    generalize hX : lst (pb B 0 (stn B - 2 - s + 1) s v) 1000 = X at h h0 ⊢
    have h1 : pb B 0 (stn B - 2 - s + 1) s v X ≠ 0 := h0
    rw [pb_step hsu] at h1
    obtain ⟨d, d1, d2, d3⟩ := sc_ne0 h1
    have d3 : (if okw B 0 (s + 1) v d = true ∧ stp B (s + 1) v d ≤ X then pb B 0 (stn B - 2 - s) (s + 1) d (X - stp B (s + 1) v d) else 0) ≠ 0 := d3
    by_cases c : okw B 0 (s + 1) v d = true ∧ stp B (s + 1) v d ≤ X
    · rw [if_pos c] at d3
      have l1 := lst_get (X := 1000) d3
      have l2 : lst (pb B 0 (stn B - 2 - s) (s + 1) d) 1000 < 1000 := by omega
      have l3 : X ≤ lst (pb B 0 (stn B - 2 - s) (s + 1) d) 1000 + stp B (s + 1) v d := by
        rw [← hX]
        refine lst_get ?_
        rw [pb_step hsu]
        intro e
        have h3 : (if okw B 0 (s + 1) v d = true ∧ stp B (s + 1) v d ≤ lst (pb B 0 (stn B - 2 - s) (s + 1) d) 1000 + stp B (s + 1) v d then pb B 0 (stn B - 2 - s) (s + 1) d (lst (pb B 0 (stn B - 2 - s) (s + 1) d) 1000 + stp B (s + 1) v d - stp B (s + 1) v d) else 0) = 0 := sc_eq0 e d1 d2
        rw [if_pos ⟨c.1, by omega⟩, Nat.add_sub_cancel] at h3
        exact lst_at l2 h3
      obtain ⟨b, b1, b2⟩ := nxt_all hw hv ⟨d1, d2⟩
      exact ⟨b, b1, by rw [b2]; exact decide_eq_true (by omega)⟩
    · rw [if_neg c] at d3
      exact absurd rfl d3
  obtain ⟨b, b1, b2⟩ := key
  have hl : bq B s v < B 0 := fi_lt b1 b2
  exact ⟨hl, fi_at (p := fun b => tk B s v b) (n := B 0) hl⟩
theorem fv_lt (hw : WF B) (z : ¬ stn B = 0) (hl : lcs B fr < 1000000) : fv B fr < B 0 ∧ go B fr (fv B fr + 1) = true ∧ lst (pb B 0 (stn B - 1) 0 (fv B fr + 1)) 1000 = lof B 0 fr := by
  obtain ⟨l1, l2⟩ := lcs_lof z hl
  have h1 := lof_at l1
  obtain ⟨v, v1, v2, v3⟩ := sc_ne0 h1
  have v3 : (if go B fr v = true then pb B 0 (stn B - 1) 0 v (lof B 0 fr) else 0) ≠ 0 := v3
  by_cases c : go B fr v = true
  · rw [if_pos c] at v3
    have g1 := lst_get (X := 1000) v3
    have g2 : tot B 0 fr (lst (pb B 0 (stn B - 1) 0 v) 1000) ≠ 0 := by
      intro e
      have h3 : (if go B fr v = true then pb B 0 (stn B - 1) 0 v (lst (pb B 0 (stn B - 1) 0 v) 1000) else 0) = 0 := sc_eq0 e v1 v2
      rw [if_pos c] at h3
      exact lst_at (P := pb B 0 (stn B - 1) 0 v) (X := 1000) (by omega) h3
    have g3 := lof_le g2
    have hf : fv B fr < B 0 := fi_lt (k := v - 1) (by omega) (by
      rw [show v - 1 + 1 = v by omega, c, Bool.true_and]
      exact decide_eq_true (by omega))
    have ha := fi_at (p := fun i => go B fr (i + 1) && decide (lst (pb B 0 (stn B - 1) 0 (i + 1)) 1000 = lof B 0 fr)) (n := B 0) hf
    have ha : (go B fr (fv B fr + 1) && decide (lst (pb B 0 (stn B - 1) 0 (fv B fr + 1)) 1000 = lof B 0 fr)) = true := ha
    rw [Bool.and_eq_true] at ha
    exact ⟨hf, ha.1, of_decide_eq_true ha.2⟩
  · rw [if_neg c] at v3
    exact absurd rfl v3
theorem vq_on (hw : WF B) (hl : lcs B fr < 1000000) : ∀ s, s < stn B → (1 ≤ vq B fr s ∧ vq B fr s ≤ B 0) ∧ onn B fr s (vq B fr s) = true := by
  intro s
  induction s with
  | zero =>
    intro hs
    obtain ⟨a, b, c⟩ := fv_lt (fr := fr) hw (by omega) hl
    obtain ⟨l1, l2⟩ := lcs_lof (B := B) (fr := fr) (by omega) hl
    refine ⟨⟨Nat.succ_le_succ (Nat.zero_le _), a⟩, ?_⟩
    show onn B fr 0 (fv B fr + 1) = true
    have hsu : suit B 0 (fv B fr + 1) = true := by
      cases q : suit B 0 (fv B fr + 1) with
      | true => rfl
      | false => have := pb_sul (o := 0) (k := stn B - 1) q; omega
    have q0 := (qf_0 ⟨hsu, b⟩).1
    exact (onn_iff (k := stn B - 1) (by omega) hl).mpr ⟨by omega, by omega, by omega⟩
  | succ s ih =>
    intro hs
    obtain ⟨h1, h2⟩ := ih (by omega)
    obtain ⟨a, b, c⟩ := (onn_iff (k := stn B - 1 - s) (by omega) hl).mp h2
    obtain ⟨b1, b2⟩ := bq_lt hw hs h1 b
    refine ⟨nxt_bd hw _ _, ?_⟩
    show onn B fr (s + 1) (nxt B (vq B fr s) (bq B s (vq B fr s))) = true
    have b3 : lst (pb B 0 (stn B - 2 - s) (s + 1) (nxt B (vq B fr s) (bq B s (vq B fr s)))) 1000 + stp B (s + 1) (vq B fr s) (nxt B (vq B fr s) (bq B s (vq B fr s))) = lst (pb B 0 (stn B - 1 - s) s (vq B fr s)) 1000 := of_decide_eq_true b2
    rw [show stn B - 1 - s = stn B - 2 - s + 1 by omega] at b3 b
    exact (on_next (k := stn B - 2 - s) (by omega) hl h1 (nxt_bd hw _ _) h2 (by omega) b3 hw).1
/-- the model's own test of going on -/
theorem tk_m (hw : WF B) (hl : lcs B fr < 1000000) {s v b : Nat} (hs : s + 1 < stn B) (hv : 1 ≤ v ∧ v ≤ B 0) (ho : onn B fr s v = true) : tk B s v b = (onn B fr (s + 1) (nxt B v b) && decide (fc (qf B fr s v) + stp B (s + 1) v (nxt B v b) = fc (qf B fr (s + 1) (nxt B v b)))) := by
  have ek : stn B - 1 - s = stn B - 2 - s + 1 := by omega
  obtain ⟨a, b', c⟩ := (onn_iff (k := stn B - 2 - s + 1) (by omega) hl).mp ho
  have hd := nxt_bd hw v b
  unfold tk
  rw [ek]
  generalize nxt B v b = d at hd
  have f1 : fc (qf B fr s v) = lst (qf B fr s v) 1000 := if_pos a
  by_cases q : lst (pb B 0 (stn B - 2 - s) (s + 1) d) 1000 + stp B (s + 1) v d = lst (pb B 0 (stn B - 2 - s + 1) s v) 1000
  · rw [decide_eq_true q]
    obtain ⟨r1, r2⟩ := on_next (k := stn B - 2 - s) (by omega) hl hv hd ho (by omega) q hw
    obtain ⟨a2, -, -⟩ := (onn_iff (k := stn B - 2 - s) (by omega) hl).mp r1
    have f2 : fc (qf B fr (s + 1) d) = lst (qf B fr (s + 1) d) 1000 := if_pos a2
    rw [r1, decide_eq_true (by omega)]
    rfl
  · rw [decide_eq_false q]
    cases r : onn B fr (s + 1) d with
    | false => rfl
    | true =>
      rw [Bool.true_and]
      refine (decide_eq_false fun e => q ?_).symm
      obtain ⟨a2, -, -⟩ := (onn_iff (k := stn B - 2 - s) (by omega) hl).mp r
      have f2 : fc (qf B fr (s + 1) d) = lst (qf B fr (s + 1) d) 1000 := if_pos a2
      exact (on_prev (k := stn B - 2 - s) (by omega) hl hv hd r a (by omega) hw).2
/-- .. and the class's -/
theorem tk_x {s v b : Nat} (hs : s + 1 < stn B) (h : lst (pb B 0 (stn B - 1 - s) s v) 1000 < 1000) (h9 : stp B (s + 1) v (nxt B v b) ≤ 9) : tk B s v b = decide (cl B 0 (stn B - 1 - (s + 1)) (s + 1) (nxt B v b) + stp B (s + 1) v (nxt B v b) = cl B 0 (stn B - 1 - s) s v) := by
  unfold tk cl
  rw [show stn B - 1 - (s + 1) = stn B - 2 - s by omega, if_pos h]
  by_cases q : lst (pb B 0 (stn B - 2 - s) (s + 1) (nxt B v b)) 1000 < 1000
  · rw [if_pos q]
  · rw [if_neg q, decide_eq_false (by omega), decide_eq_false (by omega)]
theorem tls2_len (s : Nat) : (tls2 B fr s).length ≤ s := by
  induction s with
  | zero => exact Nat.le_refl _
  | succ s ih =>
    unfold tls2
    rw [List.length_append]
    split
    · show _ + 0 ≤ _
      omega
    · show _ + 1 ≤ _
      omega
theorem tls2_s (s : Nat) : tls2 B fr (s + 1) = tls2 B fr s ++ (if bq B s (vq B fr s) = 0 then [] else [(s + 1, bq B s (vq B fr s))]) := rfl
end EX
theorem hp2_add {I : MI} {a b c e : Nat} {L : List (Nat × Nat)} {p : Nat × Nat} {v : Int32} (h : hp2 I a b L) (hab : a ≠ b) (ha : ¬ a = c) (hb : ¬ b = c) : hp2 (u2 (u2 (u2 I a L.length (nz p.1)) b L.length (nz p.2)) c e v) a b (L ++ [p]) := by
  intro j q hq
  by_cases z : j = L.length
  · subst z
    rw [List.getElem?_append_right (Nat.le_refl _), Nat.sub_self] at hq
    cases hq
    exact ⟨by rw [u2_mis (by omega), u2_mis (by omega), u2_hit ⟨rfl, rfl⟩], by rw [u2_mis (by omega), u2_hit ⟨rfl, rfl⟩]⟩
  · by_cases l : j < L.length
    · rw [List.getElem?_append_left l] at hq
      have := h j q hq
      exact ⟨by rw [u2_mis (by omega), u2_mis (by omega), u2_mis (by omega)]; exact this.1, by rw [u2_mis (by omega), u2_mis (by omega), u2_mis (by omega)]; exact this.2⟩
    · rw [List.getElem?_eq_none (by rw [List.length_append]; show L.length + 1 ≤ j; omega)] at hq
      cases hq
