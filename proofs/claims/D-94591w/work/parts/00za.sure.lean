set_option maxRecDepth 100000
/-! one stone more is noted: what of the readings is left -/
def nB (B : Nat → Nat) (s k : Nat) : Nat → Nat := fun i => if i = 49 + s then k + 1 else B i
def sel (B : Nat → Nat) (k v : Nat) : Bool := decide (k = 1) == decide (v = B 0)
theorem QF_congr {M : Nat} {su su' : Nat → Nat → Bool} {ok : Nat → Nat → Nat → Bool} {st : Nat → Nat → Nat → Nat} {go : Nat → Bool} : ∀ {s v x : Nat}, (∀ t u, t ≤ s → su' t u = su t u) → QF M su' ok st go s v x = QF M su ok st go s v x := by
  intro s
  induction s with
  | zero => intro v x h; rw [QF, QF, h 0 v (Nat.le_refl _)]
  | succ s ih =>
    intro v x h
    rw [QF, QF, h (s + 1) v (Nat.le_refl _)]
    by_cases q : su (s + 1) v = true
    · rw [if_pos q, if_pos q]
      refine sc_congr fun u _ _ => ?_
      by_cases r : ok (s + 1) u v = true ∧ st (s + 1) u v ≤ x
      · rw [if_pos r, if_pos r, ih fun t u a => h t u (by omega)]
      · rw [if_neg r, if_neg r]
    · rw [if_neg q, if_neg q]
theorem PB_congr {M : Nat} {su su' : Nat → Nat → Bool} {ok : Nat → Nat → Nat → Bool} {st : Nat → Nat → Nat → Nat} : ∀ {k s c x : Nat}, (∀ t u, s ≤ t → su' t u = su t u) → PB M su' ok st k s c x = PB M su ok st k s c x := by
  intro k
  induction k with
  | zero => intro s c x h; rw [PB, PB, h s c (Nat.le_refl _)]
  | succ k ih =>
    intro s c x h
    rw [PB, PB, h s c (Nat.le_refl _)]
    by_cases q : su s c = true
    · rw [if_pos q, if_pos q]
      refine sc_congr fun u _ _ => ?_
      by_cases r : ok (s + 1) c u = true ∧ st (s + 1) c u ≤ x
      · rw [if_pos r, if_pos r, ih fun t u a => h t u (by omega)]
      · rw [if_neg r, if_neg r]
    · rw [if_neg q, if_neg q]
section NB
variable {B : Nat → Nat} {s k : Nat}
theorem nB_eqB : eqB B (nB B s k) := fun i a b => if_neg (by omega)
theorem nB_wf (hw : WF B) (hs : s < stn B) (hk : k ≤ 1) : WF (nB B s k) := by
  have h96 := hw.st96
  refine hw.upd nB_eqB (fun s' hs' => ?_) ?_
  · unfold nB
    by_cases q : s' = s
    · rw [if_pos (by omega)]; omega
    · rw [if_neg (by omega)]; exact ⟨hw.note s' hs', fun z => hw.note0 s' z hs'⟩
  · unfold nB
    rw [if_neg (by omega)]
    exact hw.ham
theorem nB_suit (hz : B (49 + s) = 0) (t v : Nat) : suit (nB B s k) t v = (suit B t v && (decide (t ≠ s) || sel B k v)) := by
  unfold suit
  have e0 : nB B s k 0 = B 0 := if_neg (by omega)
  by_cases q : t = s
  · subst q
    have e : nB B t k (49 + t) = k + 1 := if_pos rfl
    rw [e, e0, hz]
    unfold sel
    simp
  · have e : nB B s k (49 + t) = B (49 + t) := if_neg (by omega)
    rw [e, e0, decide_eq_true q]
    simp
theorem nB_stp (hw : WF B) : stp (nB B s k) = stp B := by
  funext t u v
  unfold stp
  rw [eqB_cst nB_eqB hw, show nB B s k 0 = B 0 from if_neg (by omega)]
theorem nB_go (fr : Bool) : go (nB B s k) fr = go B fr := by
  funext v
  unfold go
  rw [show nB B s k 1 = B 1 from if_neg (by omega)]
theorem okw_f (B : Nat → Nat) : okw B 0 = fun _ _ _ => true := by
  funext s u v
  exact okw_0 B s u v
theorem nB_qf (hw : WF B) (hz : B (49 + s) = 0) (fr : Bool) (v x : Nat) : qf (nB B s k) fr s v x = if sel B k v = true then qf B fr s v x else 0 := by
  have hsu : suit B s v = true := by unfold suit; rw [hz]; rfl
  have hsu' : suit (nB B s k) s v = sel B k v := by rw [nB_suit hz, hsu]; simp
  unfold qf
  rw [nB_stp hw, nB_go, okw_f, okw_f, show nB B s k 0 = B 0 from if_neg (by omega)]
  by_cases q : sel B k v = true
  · rw [if_pos q]
    cases s with
    | zero => rw [QF, QF, hsu, hsu', q]
    | succ t =>
      rw [QF, QF, hsu, hsu', q]
      refine congrArg (fun z => if true = true then z else 0) (sc_congr fun u _ _ => ?_)
      by_cases r : true = true ∧ stp B (t + 1) u v ≤ x
      · rw [if_pos r, if_pos r]
        exact QF_congr fun a b c => by rw [nB_suit hz, decide_eq_true (show a ≠ t + 1 by omega)]; simp
      · rw [if_neg r, if_neg r]
  · rw [if_neg q]
    exact QF_su _ _ _ _ _ (by rw [hsu']; exact Bool.eq_false_iff.mpr q)
theorem nB_pb (hw : WF B) (hz : B (49 + s) = 0) (j v x : Nat) : pb (nB B s k) 0 j s v x = if sel B k v = true then pb B 0 j s v x else 0 := by
  have hsu : suit B s v = true := by unfold suit; rw [hz]; rfl
  have hsu' : suit (nB B s k) s v = sel B k v := by rw [nB_suit hz, hsu]; simp
  unfold pb
  rw [nB_stp hw, okw_f, okw_f, show nB B s k 0 = B 0 from if_neg (by omega)]
  by_cases q : sel B k v = true
  · rw [if_pos q]
    cases j with
    | zero => rw [PB, PB, hsu, hsu', q]
    | succ t =>
      rw [PB, PB, hsu, hsu', q]
      refine congrArg (fun z => if true = true then z else 0) (sc_congr fun u _ _ => ?_)
      by_cases r : true = true ∧ stp B (s + 1) v u ≤ x
      · rw [if_pos r, if_pos r]
        exact PB_congr fun a b c => by rw [nB_suit hz, decide_eq_true (show a ≠ s by omega)]; simp
      · rw [if_neg r, if_neg r]
  · rw [if_neg q]
    exact PB_su _ _ _ _ (by rw [hsu']; exact Bool.eq_false_iff.mpr q)
theorem nB_stn (hw : WF B) : stn (nB B s k) = stn B := eqB_stn nB_eqB hw
theorem nB_tot (hw : WF B) (hz : B (49 + s) = 0) (fr : Bool) {j : Nat} (hs : s + j + 1 = stn B) (x : Nat) : tot (nB B s k) 0 fr x = sc (fun v => if sel B k v = true then sm (fun y => qf B fr s v y * pb B 0 j s v (x - y)) (x + 1) else 0) (B 0) := by
  rw [tot_cv (B := nB B s k) (s := s) (k := j) (by rw [nB_stn hw]; exact hs), show nB B s k 0 = B 0 from if_neg (by omega)]
  refine sc_congr fun v _ _ => ?_
  by_cases q : sel B k v = true
  · rw [if_pos q]
    refine sm_congr fun y _ => ?_
    rw [nB_qf hw hz, nB_pb hw hz, if_pos q, if_pos q]
  · rw [if_neg q]
    refine sm_zero fun y _ => ?_
    rw [nB_qf hw hz, if_neg q, Nat.zero_mul]
theorem nB_totL (hw : WF B) (hz : B (49 + s) = 0) {fr : Bool} {j : Nat} (hs : s + j + 1 = stn B) (hl : lcs B fr < 1000000) : tot (nB B s k) 0 fr (lof B 0 fr) = sc (fun v => if sel B k v = true then (if onn B fr s v = true then fw (qf B fr s v) * fw (pb B 0 j s v) else 0) else 0) (B 0) := by
  rw [nB_tot hw hz fr hs]
  refine sc_congr fun v a b => ?_
  by_cases q : sel B k v = true
  · rw [if_pos q, if_pos q]; exact tot_on hs a b hl
  · rw [if_neg q, if_neg q]
theorem fw_ne {P : Nat → Nat} (h : lst P 1000 < 1000) : fw P ≠ 0 := by
  unfold fw
  rw [if_pos h]
  exact lst_at h
theorem on_ne {fr : Bool} {j v : Nat} (hs : s + j + 1 = stn B) (hl : lcs B fr < 1000000) (h : onn B fr s v = true) : fw (qf B fr s v) * fw (pb B 0 j s v) ≠ 0 := by
  obtain ⟨a, b, c⟩ := (onn_iff hs hl).mp h
  have h1 := Nat.pos_of_ne_zero (fw_ne a)
  have h2 := Nat.pos_of_ne_zero (fw_ne b)
  have := Nat.mul_pos h1 h2
  omega
theorem nB_tot_le (hw : WF B) (hz : B (49 + s) = 0) (hs : s < stn B) (fr : Bool) (x : Nat) : tot (nB B s k) 0 fr x ≠ 0 → tot B 0 fr x ≠ 0 := by
  intro h
  have hj : s + (stn B - 1 - s) + 1 = stn B := by omega
  rw [nB_tot hw hz fr hj] at h
  obtain ⟨v, h1, h2, h3⟩ := sc_ne0 h
  rw [tot_cv hj]
  intro e
  have := sc_eq0 e h1 h2
  by_cases q : sel B k v = true
  · rw [if_pos q] at h3; exact h3 this
  · rw [if_neg q] at h3; exact h3 rfl
/-- whether a reading of the least cost is left -/
def lft (B : Nat → Nat) (fr : Bool) (s k : Nat) : Bool := decide (sc (fun v => if sel B k v = true then (if onn B fr s v = true then 1 else 0) else 0) (B 0) ≠ 0)
theorem nB_tot_ne (hw : WF B) (hz : B (49 + s) = 0) (hs : s < stn B) {fr : Bool} (hl : lcs B fr < 1000000) : tot (nB B s k) 0 fr (lof B 0 fr) ≠ 0 ↔ lft B fr s k = true := by
  have hj : s + (stn B - 1 - s) + 1 = stn B := by omega
  rw [nB_totL hw hz hj hl]
  unfold lft
  constructor
  · intro h
    obtain ⟨v, h1, h2, h3⟩ := sc_ne0 h
    refine decide_eq_true fun e => ?_
    have := sc_eq0 e h1 h2
    by_cases q : sel B k v = true
    · rw [if_pos q] at h3 this
      by_cases o : onn B fr s v = true
      · rw [if_pos o] at this; omega
      · rw [if_neg o] at h3; exact h3 rfl
    · rw [if_neg q] at h3; exact h3 rfl
  · intro h e
    obtain ⟨v, h1, h2, h3⟩ := sc_ne0 (of_decide_eq_true h)
    have := sc_eq0 e h1 h2
    by_cases q : sel B k v = true
    · rw [if_pos q] at h3 this
      by_cases o : onn B fr s v = true
      · rw [if_pos o] at this; exact on_ne hj hl o this
      · rw [if_neg o] at h3; exact h3 rfl
    · rw [if_neg q] at h3; exact h3 rfl
theorem nB_lof (hw : WF B) (hz : B (49 + s) = 0) (hs : s < stn B) {fr : Bool} (hl : lcs B fr < 1000000) : (lof (nB B s k) 0 fr = lof B 0 fr) = (lft B fr s k = true) := by
  obtain ⟨l1, -⟩ := lcs_lof (by omega) hl
  have h1 := nB_tot_ne (k := k) hw hz hs hl
  apply propext
  rw [← h1]
  constructor
  · intro e
    rw [← e]
    exact lof_at (B := nB B s k) (by rw [e]; exact l1)
  · intro h
    have a := lof_le h
    by_cases b : lof (nB B s k) 0 fr < lof B 0 fr
    · have c := lof_at (B := nB B s k) (fr := fr) (by omega)
      have := lof_le (nB_tot_le hw hz hs fr _ c)
      omega
    · omega
theorem nB_lcs (hw : WF B) (hz : B (49 + s) = 0) (hs : s < stn B) {fr : Bool} (hl : lcs B fr < 1000000) : ((if lcs (nB B s k) fr < 1000000 then lcs (nB B s k) fr else 100000) = lcs B fr) = (lft B fr s k = true) := by
  obtain ⟨l1, l2⟩ := lcs_lof (by omega) hl
  rw [← nB_lof hw hz hs hl, l2]
  have z' : ¬ stn (nB B s k) = 0 := by rw [nB_stn hw]; omega
  have e : lcs (nB B s k) fr = if lof (nB B s k) 0 fr < 1000 then lof (nB B s k) 0 fr else 1000000 := if_neg z'
  rw [e]
  apply propext
  by_cases l : lof (nB B s k) 0 fr < 1000
  · rw [if_pos l, if_pos (by omega)]
  · rw [if_neg l, if_neg (by omega)]
    constructor
    · intro h; omega
    · intro h; omega
end NB
theorem m_isOn {I : MI} {J : MJ} {B : Nat → Nat} (hw : WF B) {fr : Bool} (hf : ∀ s, s < stn B → foreR I J B fr s) (ha : ∀ s, s < stn B → aftR I B (stn B - 1 - s) s) (h29 : I 0 29 = nz (lcs B fr)) {J' : MJ} {s v : Nat} (hs : s < stn B) (hv : 1 ≤ v ∧ v ≤ B 0) : f_X7_isOn I J' (nz s) (nz v) = some (bo (onn B fr s v)) := by
  have h96 := hw.st96
  have ho := hw.oath
  have h1 := (hf s hs v hv.1 hv.2).1
  have h2 := ha s hs v hv.1 hv.2
  have hb1 := fc_bd (qf B fr s v)
  have hb2 := fc_bd (pb B 0 (stn B - 1 - s) s v)
  have hb3 := lcs_bd B fr
  have e : (I 9 (nz (14 * s + v)).toNatClampNeg + I 10 (nz (14 * s + v)).toNatClampNeg = I 0 29) = (fc (qf B fr s v) + fc (pb B 0 (stn B - 1 - s) s v) = lcs B fr) := by
    rw [nz_tn (by omega), h1, h2, h29, nz_add, nz_eq (by omega)]
  unfold f_X7_isOn onn
  refine e_cb m_cell (e_ck (by ((try simp (disch := omega) only [nz_lit, lz_lit, nz_ofNat, neg_nz1, neg_lz1, nz_0_sub_1, nz_add, nz_mul, nz_sub, nz_lt, nz_le, nz_eq, nz_tn, nz_inb, nz_rem, nz_div, nz_min, nz_max, nz_l, mz_l, lz_i, mz_lt_nz, mz_le_nz, nz_lt_mz, nz_le_mz, nz_eq_mz, mz_eq_nz, nz_add_mz, mz_add_nz, lz_add, lz_mul, lz_sub, lz_lt, lz_le, lz_eq, lz_min, lz_max, lz_rem, lz_div, ml_lt_lz, lz_lt_ml, ml_le_lz, lz_le_ml, lz_eq_ml, ml_eq_lz, lg_lt', lg_le', lg_gt', lg_ge', lg_eq', u2_hit, u2_mis, if_true, if_false, eq_self, and_true, true_and, and_false, false_and, or_true, true_or, or_false, false_or, not_true_eq_false, not_false_eq_true, oz_0, oz_s, bo_0, bo_1, bo_01, bo_bo, Bool.false_eq_true, Bool.true_eq_false, Nat.reduceEqDiff, Nat.reduceAdd, Nat.reduceMul, Nat.reduceSub, Nat.zero_add, Nat.add_zero, Nat.sub_zero]) <;> omega)) (e_cb m_cell (e_ck (by ((try simp (disch := omega) only [nz_lit, lz_lit, nz_ofNat, neg_nz1, neg_lz1, nz_0_sub_1, nz_add, nz_mul, nz_sub, nz_lt, nz_le, nz_eq, nz_tn, nz_inb, nz_rem, nz_div, nz_min, nz_max, nz_l, mz_l, lz_i, mz_lt_nz, mz_le_nz, nz_lt_mz, nz_le_mz, nz_eq_mz, mz_eq_nz, nz_add_mz, mz_add_nz, lz_add, lz_mul, lz_sub, lz_lt, lz_le, lz_eq, lz_min, lz_max, lz_rem, lz_div, ml_lt_lz, lz_lt_ml, ml_le_lz, lz_le_ml, lz_eq_ml, ml_eq_lz, lg_lt', lg_le', lg_gt', lg_ge', lg_eq', u2_hit, u2_mis, if_true, if_false, eq_self, and_true, true_and, and_false, false_and, or_true, true_or, or_false, false_or, not_true_eq_false, not_false_eq_true, oz_0, oz_s, bo_0, bo_1, bo_01, bo_bo, Bool.false_eq_true, Bool.true_eq_false, Nat.reduceEqDiff, Nat.reduceAdd, Nat.reduceMul, Nat.reduceSub, Nat.zero_add, Nat.add_zero, Nat.sub_zero]) <;> omega)) (e_bo.trans ?_))))
  by_cases q : fc (qf B fr s v) + fc (pb B 0 (stn B - 1 - s) s v) = lcs B fr
  · rw [decide_eq_true q, decide_eq_true (by rw [e]; exact q)]
  · rw [decide_eq_false q, decide_eq_false (by rw [e]; exact q)]
