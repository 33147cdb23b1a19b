set_option maxRecDepth 100000
/-! what is told, the tape, the faults, the walked: cells that both sides hold alike; feed -/
def eF (i k : Nat) : Prop := i = 8 ∨ (i = 6 ∧ k = 9) ∨ (i = 4 ∧ (k = 9 ∨ k = 10 ∨ k = 17 ∨ k = 18 ∨ k = 36)) ∨ i = 215 ∨ i = 216 ∨ i = 224
def eG (a b : Nat) : Prop := a = 4 ∨ (a = 0 ∧ (b = 8 ∨ b = 10 ∨ b = 11 ∨ b = 32 ∨ b = 33 ∨ b = 51)) ∨ a = 13 ∨ a = 14 ∨ a = 22
theorem Inv.flat {g : Sh} {IX IX' : MI} {JX JX' : MJ} {IM IM' : MI} {JM JM' : MJ} (h : Inv g IX JX IM JM) (hst : IX' 4 8 = IM' 0 0) (hx : ∀ Q : Nat → Prop, kpX Q eF IX IX') (hxj : ∀ i k, ¬ scXJ i → i ≠ 4 → JX' i k = JX i k) (hm : kpM eG IM IM') (hmj : ∀ a b, ¬ scMJ a b → a ≠ 0 → JM' a b = JM a b) (hFr : cFr JX' JM') (hTa : cTape IX' IM') (hFt : cFt IX' IM') (hTo : cTo IX' IM') (hWk : cWk IX' IM') : Inv g IX' JX' IM' JM' := by
  obtain ⟨S, Q, w, B, mk, wk, C, h1, h2, h3, h4, h5, h6, h7, h8, h9, h10⟩ := h
  have kx := hx Q
  have sI := kx.S h1 (fun i k q => by unfold eF at q; omega)
  have qI := kx.Q h1 (fun i k q => by unfold eF at q; omega)
  have at' : ∀ {i k : Nat}, _ → ¬ eF i k → IX' i k = IX i k := fun {i k} hi hE => kx.at h1 (i := i) (k := k) hi hE
  refine ⟨S, Q, w, B, mk, wk, C, h1, hst, hFr, ?_, hTa, hFt, ?_, ?_, hTo, hWk⟩
  · exact h4.keep (fun _ _ q => q) (fun _ _ q => q) (Nat.le_refl _) (fun _ _ => rfl) (fun _ _ _ _ _ => ⟨rfl, rfl⟩) (fun t ht => at' (by omega) (by unfold eF; omega)) (fun r k a1 a2 a3 a4 => ⟨kx.row (g := g) (S := S) a1 a4 (by unfold eF; omega), hxj _ _ (by unfold scXJ; omega) (by omega)⟩) (fun t ht => ⟨hm _ _ (by unfold scM; omega) (by omega) (by unfold eG; omega), hm _ _ (by unfold scM; omega) (by omega) (by unfold eG; omega)⟩) (fun k => hmj _ _ (by unfold scMJ; omega) (by omega))
  · exact h7.keep (fun _ q => q) (fun _ q => q) sI qI (fun _ _ _ => rfl) (fun _ _ => rfl) ⟨rfl, rfl⟩ (fun s _ => at' (by omega) (by unfold eF; omega)) ⟨at' (by omega) (by unfold eF; omega), at' (by omega) (by unfold eF; omega)⟩ (fun k hk => hm _ _ (by unfold scM; omega) (by omega) (by unfold eG; omega))
  · exact h8.keep (fun _ q => q) (fun _ q => q) sI qI (fun _ _ _ => rfl) (fun _ _ => rfl) (fun _ _ _ _ => rfl) (fun i k a b => at' (by omega) (by unfold eF; omega)) (at' (by omega) (by unfold eF; omega)) (hm _ _ (by unfold scM; omega) (by omega) (by unfold eG; omega)) (fun k a b => hm _ _ (by unfold scM; omega) (by omega) (by unfold eG; omega))
def wfX (j : Nat) : Int32 := (24 : Int32) - (8 : Int32) * Int32.ofNat j
def wfM (j : Nat) : Int32 := (3 : Int32) - Int32.ofNat j
def bt4 (a : Int32) (j : Nat) : Int32 := (Int8.toInt32 (Int32.toInt8 (a >>> (wfX j &&& 31)))).toInt8.toInt32
theorem x_four (g : Sh) (I : MI) (J : MJ) (a : Int32) {n : Nat} (hn : n + 4 ≤ 900) (h : I 6 9 = nz n) : ∃ I', f_X0_four g I J a = some I' ∧ I' 6 9 = nz (n + 4) ∧ (∀ k, I' 8 k = if n ≤ k ∧ k < n + 4 then bt4 a (k - n) else I 8 k) ∧ ∀ i k, i ≠ 8 → ¬ (i = 6 ∧ k = 9) → I' i k = I i k := by
  have key := lp_inv (step := un2 (f_X0_four_s3 g J a)) (fun j s => ∃ I', s = (wfX j, I') ∧ I' 6 9 = nz (n + j) ∧ (∀ k, I' 8 k = if n ≤ k ∧ k < n + j then bt4 a (k - n) else I 8 k) ∧ ∀ i k, i ≠ 8 → ¬ (i = 6 ∧ k = 9) → I' i k = I i k) (fun I' => I' 6 9 = nz (n + 4) ∧ (∀ k, I' 8 k = if n ≤ k ∧ k < n + 4 then bt4 a (k - n) else I 8 k) ∧ ∀ i k, i ≠ 8 → ¬ (i = 6 ∧ k = 9) → I' i k = I i k) 4 (fun j s hj hs => ?_) (fun s hs => ?_) (s0 := ((24 : Int32), I)) ⟨I, rfl, h, fun k => by rw [if_neg (by omega)], fun _ _ _ _ => rfl⟩ (n := FU) (FUl (by omega))
  · obtain ⟨I', e, q⟩ := key
    refine ⟨I', ?_, q⟩
    unfold f_X0_four
    exact e_cb e rfl
  · obtain ⟨I', rfl, a1, a2, a3⟩ := hs
    have hj' : j = 0 ∨ j = 1 ∨ j = 2 ∨ j = 3 := by omega
    have n0 : ¬ wfX j < 0 := by rcases hj' with rfl | rfl | rfl | rfl <;> decide
    have n1 : wfX j + (-8 : Int32) = wfX (j + 1) := by rcases hj' with rfl | rfl | rfl | rfl <;> decide
    have n2 : inb (I' 6 9) 900 := by rw [a1, nz_inb (by omega)]; omega
    refine ⟨(wfX (j + 1), u2 (u2 I' 8 (n + j) (bt4 a j)) 6 9 (nz (n + (j + 1)))), ?_, _, rfl, u2_hit ⟨rfl, rfl⟩, fun k => ?_, fun i k b c => ?_⟩
    · dsimp only [un2, f_X0_four_s3]
      refine e_neg n0 (e_ck n2 (e_nm (e_nm (e_nm ?_))))
      have e1 : (I' 6 9).toNatClampNeg = n + j := by rw [a1, nz_tn (by omega)]
      have e2 : ∀ v, u2 I' 8 (I' 6 9).toNatClampNeg v 6 9 + (1 : Int32) = nz (n + (j + 1)) := fun v => by
        rw [u2_mis (by omega), a1]
        simp (disch := omega) only [nz_lit, lz_lit, nz_ofNat, neg_nz1, neg_lz1, nz_0_sub_1, nz_add, nz_mul, nz_sub, nz_lt, nz_le, nz_eq, nz_tn, nz_inb, nz_rem, nz_div, nz_min, nz_max, nz_l, mz_l, lz_i, mz_lt_nz, mz_le_nz, nz_lt_mz, nz_le_mz, nz_eq_mz, mz_eq_nz, nz_add_mz, mz_add_nz, lz_add, lz_mul, lz_sub, lz_lt, lz_le, lz_eq, lz_min, lz_max, lz_rem, lz_div, ml_lt_lz, lz_lt_ml, ml_le_lz, lz_le_ml, lz_eq_ml, ml_eq_lz, lg_lt', lg_le', lg_gt', lg_ge', lg_eq', u2_hit, u2_mis, if_true, if_false, eq_self, and_true, true_and, and_false, false_and, or_true, true_or, or_false, false_or, not_true_eq_false, not_false_eq_true, oz_0, oz_s, bo_0, bo_1, bo_01, bo_bo, Bool.false_eq_true, Bool.true_eq_false, Nat.reduceEqDiff, Nat.reduceAdd, Nat.reduceMul, Nat.reduceSub, Nat.zero_add, Nat.add_zero, Nat.sub_zero, Nat.add_assoc]
      rw [n1, e2, e1]
      rfl
    · rw [u2_mis (by omega)]
      by_cases z : k = n + j
      · subst z
        rw [u2_hit ⟨rfl, rfl⟩, if_pos (by omega), show n + j - n = j by omega]
      · rw [u2_mis (by omega), a2]
        by_cases y : n ≤ k ∧ k < n + j
        · rw [if_pos y, if_pos (by omega)]
        · rw [if_neg y, if_neg (by omega)]
    · rw [u2_mis c, u2_mis (by omega)]; exact a3 i k b c
  · obtain ⟨I', rfl, q⟩ := hs
    refine ⟨I', ?_, q⟩
    dsimp only [un2, f_X0_four_s3]
    exact e_pos (by decide) rfl
theorem m_lay (I : MI) (J : MJ) (a : Int32) {n : Nat} (hn : n + 4 ≤ 900) (h : I 0 8 = nz n) : ∃ I', f_X7_lay I J a = some I' ∧ I' 0 8 = nz (n + 4) ∧ (∀ k, I' 4 k = if n ≤ k ∧ k < n + 4 then bt4 a (k - n) else I 4 k) ∧ ∀ i k, i ≠ 4 → ¬ (i = 0 ∧ k = 8) → I' i k = I i k := by
  have key := lp_inv (step := un2 (f_X7_lay_s2 J a)) (fun j s => ∃ I', s = (wfM j, I') ∧ I' 0 8 = nz (n + j) ∧ (∀ k, I' 4 k = if n ≤ k ∧ k < n + j then bt4 a (k - n) else I 4 k) ∧ ∀ i k, i ≠ 4 → ¬ (i = 0 ∧ k = 8) → I' i k = I i k) (fun I' => I' 0 8 = nz (n + 4) ∧ (∀ k, I' 4 k = if n ≤ k ∧ k < n + 4 then bt4 a (k - n) else I 4 k) ∧ ∀ i k, i ≠ 4 → ¬ (i = 0 ∧ k = 8) → I' i k = I i k) 4 (fun j s hj hs => ?_) (fun s hs => ?_) (s0 := ((3 : Int32), I)) ⟨I, rfl, h, fun k => by rw [if_neg (by omega)], fun _ _ _ _ => rfl⟩ (n := FU) (FUl (by omega))
  · obtain ⟨I', e, q⟩ := key
    refine ⟨I', ?_, q⟩
    unfold f_X7_lay
    exact e_cb e rfl
  · obtain ⟨I', rfl, a1, a2, a3⟩ := hs
    have hj' : j = 0 ∨ j = 1 ∨ j = 2 ∨ j = 3 := by omega
    have n0 : ¬ wfM j < 0 := by rcases hj' with rfl | rfl | rfl | rfl <;> decide
    have n1 : wfM j + (-1 : Int32) = wfM (j + 1) := by rcases hj' with rfl | rfl | rfl | rfl <;> decide
    have n3 : (8 : Int32) * wfM j = wfX j := by rcases hj' with rfl | rfl | rfl | rfl <;> decide
    have n2 : inb (I' 0 8) 900 := by rw [a1, nz_inb (by omega)]; omega
    refine ⟨(wfM (j + 1), u2 (u2 I' 4 (n + j) (bt4 a j)) 0 8 (nz (n + (j + 1)))), ?_, _, rfl, u2_hit ⟨rfl, rfl⟩, fun k => ?_, fun i k b c => ?_⟩
    · dsimp only [un2, f_X7_lay_s2]
      refine e_neg n0 (e_ck n2 (e_nm (e_nm (e_nm ?_))))
      have e1 : (I' 0 8).toNatClampNeg = n + j := by rw [a1, nz_tn (by omega)]
      have e2 : ∀ v, u2 I' 4 (I' 0 8).toNatClampNeg v 0 8 + (1 : Int32) = nz (n + (j + 1)) := fun v => by
        rw [u2_mis (by omega), a1]
        simp (disch := omega) only [nz_lit, lz_lit, nz_ofNat, neg_nz1, neg_lz1, nz_0_sub_1, nz_add, nz_mul, nz_sub, nz_lt, nz_le, nz_eq, nz_tn, nz_inb, nz_rem, nz_div, nz_min, nz_max, nz_l, mz_l, lz_i, mz_lt_nz, mz_le_nz, nz_lt_mz, nz_le_mz, nz_eq_mz, mz_eq_nz, nz_add_mz, mz_add_nz, lz_add, lz_mul, lz_sub, lz_lt, lz_le, lz_eq, lz_min, lz_max, lz_rem, lz_div, ml_lt_lz, lz_lt_ml, ml_le_lz, lz_le_ml, lz_eq_ml, ml_eq_lz, lg_lt', lg_le', lg_gt', lg_ge', lg_eq', u2_hit, u2_mis, if_true, if_false, eq_self, and_true, true_and, and_false, false_and, or_true, true_or, or_false, false_or, not_true_eq_false, not_false_eq_true, oz_0, oz_s, bo_0, bo_1, bo_01, bo_bo, Bool.false_eq_true, Bool.true_eq_false, Nat.reduceEqDiff, Nat.reduceAdd, Nat.reduceMul, Nat.reduceSub, Nat.zero_add, Nat.add_zero, Nat.sub_zero, Nat.add_assoc]
      rw [n1, n3, e2, e1]
      rfl
    · rw [u2_mis (by omega)]
      by_cases z : k = n + j
      · subst z
        rw [u2_hit ⟨rfl, rfl⟩, if_pos (by omega), show n + j - n = j by omega]
      · rw [u2_mis (by omega), a2]
        by_cases y : n ≤ k ∧ k < n + j
        · rw [if_pos y, if_pos (by omega)]
        · rw [if_neg y, if_neg (by omega)]
    · rw [u2_mis c, u2_mis (by omega)]; exact a3 i k b c
  · obtain ⟨I', rfl, q⟩ := hs
    refine ⟨I', ?_, q⟩
    dsimp only [un2, f_X7_lay_s2]
    exact e_pos (by decide) rfl
/-- one number is laid on both tapes -/
theorem lay_both (g : Sh) (IX : MI) (JX : MJ) (IM : MI) (JM : MJ) (a : Int32) {n : Nat} (hn : n + 4 ≤ 900) (hx : IX 6 9 = nz n) (hm : IM 0 8 = nz n) (ht : ∀ k, k < 900 → IX 8 k = IM 4 k) : ∃ IX' IM', f_X0_four g IX JX a = some IX' ∧ f_X7_lay IM JM a = some IM' ∧ IX' 6 9 = nz (n + 4) ∧ IM' 0 8 = nz (n + 4) ∧ (∀ k, k < 900 → IX' 8 k = IM' 4 k) ∧ (∀ i k, i ≠ 8 → ¬ (i = 6 ∧ k = 9) → IX' i k = IX i k) ∧ ∀ i k, i ≠ 4 → ¬ (i = 0 ∧ k = 8) → IM' i k = IM i k := by
  obtain ⟨I1, a1, a2, a3, a4⟩ := x_four g IX JX a hn hx
  obtain ⟨I2, b1, b2, b3, b4⟩ := m_lay IM JM a hn hm
  refine ⟨I1, I2, a1, b1, a2, b2, fun k hk => ?_, a4, b4⟩
  rw [a3, b3, ht k hk]
theorem op_7 : OP_7 Inv := by
  intro g IX JX IM JM h a1 a2 a3 a4 a5
  obtain ⟨S, Q, w, B, mk, wk, C, hh⟩ := id h
  obtain ⟨⟨n, n9, hx, hm⟩, ht⟩ := hh.2.2.2.2.1
  have hm' : u2 IM 0 1 (nz 0) 0 8 = nz n := by rw [u2_mis (by omega)]; exact hm
  have ht' : ∀ k, k < 900 → IX 8 k = u2 IM 0 1 (nz 0) 4 k := fun k hk => by rw [u2_mis (by omega)]; exact ht k hk
  by_cases q : n + 20 ≤ 900
  · obtain ⟨X1, M1, c1, d1, p1, r1, t1, u1, v1⟩ := lay_both g IX JX _ JM a1 (by omega) hx hm' ht'
    obtain ⟨X2, M2, c2, d2, p2, r2, t2, u2', v2⟩ := lay_both g X1 JX M1 JM a2 (by omega) p1 r1 t1
    obtain ⟨X3, M3, c3, d3, p3, r3, t3, u3, v3⟩ := lay_both g X2 JX M2 JM a3 (by omega) p2 r2 t2
    obtain ⟨X4, M4, c4, d4, p4, r4, t4, u4, v4⟩ := lay_both g X3 JX M3 JM a4 (by omega) p3 r3 t3
    obtain ⟨X5, M5, c5, d5, p5, r5, t5, u5, v5⟩ := lay_both g X4 JX M4 JM a5 (by omega) p4 r4 t4
    have kx : ∀ i k, i ≠ 8 → ¬ (i = 6 ∧ k = 9) → X5 i k = IX i k := fun i k e f => by rw [u5 i k e f, u4 i k e f, u3 i k e f, u2' i k e f, u1 i k e f]
    have km : ∀ i k, i ≠ 4 → ¬ (i = 0 ∧ k = 8) → ¬ (i = 0 ∧ k = 1) → M5 i k = IM i k := fun i k e f f' => by rw [v5 i k e f, v4 i k e f, v3 i k e f, v2 i k e f, v1 i k e f, u2_mis f']
    refine ⟨nz (n + 4 + 4 + 4 + 4 + 4), X5, M5, ?_, ?_, ?_⟩
    · unfold f_X0_feed
      refine e_pos (by rw [hx]; ((try simp (disch := omega) only [nz_lit, lz_lit, nz_ofNat, neg_nz1, neg_lz1, nz_0_sub_1, nz_add, nz_mul, nz_sub, nz_lt, nz_le, nz_eq, nz_tn, nz_inb, nz_rem, nz_div, nz_min, nz_max, nz_l, mz_l, lz_i, mz_lt_nz, mz_le_nz, nz_lt_mz, nz_le_mz, nz_eq_mz, mz_eq_nz, nz_add_mz, mz_add_nz, lz_add, lz_mul, lz_sub, lz_lt, lz_le, lz_eq, lz_min, lz_max, lz_rem, lz_div, ml_lt_lz, lz_lt_ml, ml_le_lz, lz_le_ml, lz_eq_ml, ml_eq_lz, lg_lt', lg_le', lg_gt', lg_ge', lg_eq', u2_hit, u2_mis, if_true, if_false, eq_self, and_true, true_and, and_false, false_and, or_true, true_or, or_false, false_or, not_true_eq_false, not_false_eq_true, oz_0, oz_s, bo_0, bo_1, bo_01, bo_bo, Bool.false_eq_true, Bool.true_eq_false, Nat.reduceEqDiff, Nat.reduceAdd, Nat.reduceMul, Nat.reduceSub, Nat.zero_add, Nat.add_zero, Nat.sub_zero]) <;> omega)) (e_cb c1 (e_cb c2 (e_cb c3 (e_cb c4 (e_cb c5 ?_)))))
      rw [p5]
    · unfold f_X7_feed
      refine e_nm (e_pos ?_ (e_cb d1 (e_cb d2 (e_cb d3 (e_cb d4 (e_cb d5 ?_))))))
      · show u2 IM 0 1 (nz 0) 0 8 + (20 : Int32) ≤ (900 : Int32)
        rw [hm']; ((try simp (disch := omega) only [nz_lit, lz_lit, nz_ofNat, neg_nz1, neg_lz1, nz_0_sub_1, nz_add, nz_mul, nz_sub, nz_lt, nz_le, nz_eq, nz_tn, nz_inb, nz_rem, nz_div, nz_min, nz_max, nz_l, mz_l, lz_i, mz_lt_nz, mz_le_nz, nz_lt_mz, nz_le_mz, nz_eq_mz, mz_eq_nz, nz_add_mz, mz_add_nz, lz_add, lz_mul, lz_sub, lz_lt, lz_le, lz_eq, lz_min, lz_max, lz_rem, lz_div, ml_lt_lz, lz_lt_ml, ml_le_lz, lz_le_ml, lz_eq_ml, ml_eq_lz, lg_lt', lg_le', lg_gt', lg_ge', lg_eq', u2_hit, u2_mis, if_true, if_false, eq_self, and_true, true_and, and_false, false_and, or_true, true_or, or_false, false_or, not_true_eq_false, not_false_eq_true, oz_0, oz_s, bo_0, bo_1, bo_01, bo_bo, Bool.false_eq_true, Bool.true_eq_false, Nat.reduceEqDiff, Nat.reduceAdd, Nat.reduceMul, Nat.reduceSub, Nat.zero_add, Nat.add_zero, Nat.sub_zero]) <;> omega)
      · rw [r5]
    · refine h.flat ?_ (fun Q i k a b c => kx i k (fun e => c (by unfold eF; omega)) (fun e => c (by unfold eF; omega))) (fun _ _ _ _ => rfl) (fun a b c d e => km a b (fun z => e (by unfold eG; omega)) (fun z => e (by unfold eG; omega)) (fun z => c (by unfold scM; omega))) (fun _ _ _ _ => rfl) hh.2.2.1 ⟨⟨n + 4 + 4 + 4 + 4 + 4, by omega, p5, r5⟩, t5⟩ ?_ ?_ ?_
      · rw [kx 4 8 (by omega) (by omega), km 0 0 (by omega) (by omega) (by omega)]; exact hh.2.1
      · exact hh.2.2.2.2.2.1.keep ⟨kx _ _ (by omega) (by omega), kx _ _ (by omega) (by omega)⟩ ⟨km _ _ (by omega) (by omega) (by omega), km _ _ (by omega) (by omega) (by omega)⟩
      · exact hh.2.2.2.2.2.2.2.2.1.keep ⟨⟨kx _ _ (by omega) (by omega), kx _ _ (by omega) (by omega)⟩, fun k => ⟨kx _ _ (by omega) (by omega), kx _ _ (by omega) (by omega)⟩⟩ ⟨⟨km _ _ (by omega) (by omega) (by omega), km _ _ (by omega) (by omega) (by omega)⟩, fun k => ⟨km _ _ (by omega) (by omega) (by omega), km _ _ (by omega) (by omega) (by omega)⟩⟩
      · exact hh.2.2.2.2.2.2.2.2.2.keep ⟨kx _ _ (by omega) (by omega), fun k => kx _ _ (by omega) (by omega)⟩ ⟨km _ _ (by omega) (by omega) (by omega), fun k => km _ _ (by omega) (by omega) (by omega)⟩
  · refine ⟨mz, IX, u2 IM 0 1 (nz 0), ?_, ?_, h.ro (st := IM 0 0) (fun Q => ⟨hh.2.1, fun _ _ _ _ => rfl⟩) (roXJ_rfl _) roM_1 (roMJ_rfl _)⟩
    · unfold f_X0_feed
      exact e_neg (by rw [hx]; ((try simp (disch := omega) only [nz_lit, lz_lit, nz_ofNat, neg_nz1, neg_lz1, nz_0_sub_1, nz_add, nz_mul, nz_sub, nz_lt, nz_le, nz_eq, nz_tn, nz_inb, nz_rem, nz_div, nz_min, nz_max, nz_l, mz_l, lz_i, mz_lt_nz, mz_le_nz, nz_lt_mz, nz_le_mz, nz_eq_mz, mz_eq_nz, nz_add_mz, mz_add_nz, lz_add, lz_mul, lz_sub, lz_lt, lz_le, lz_eq, lz_min, lz_max, lz_rem, lz_div, ml_lt_lz, lz_lt_ml, ml_le_lz, lz_le_ml, lz_eq_ml, ml_eq_lz, lg_lt', lg_le', lg_gt', lg_ge', lg_eq', u2_hit, u2_mis, if_true, if_false, eq_self, and_true, true_and, and_false, false_and, or_true, true_or, or_false, false_or, not_true_eq_false, not_false_eq_true, oz_0, oz_s, bo_0, bo_1, bo_01, bo_bo, Bool.false_eq_true, Bool.true_eq_false, Nat.reduceEqDiff, Nat.reduceAdd, Nat.reduceMul, Nat.reduceSub, Nat.zero_add, Nat.add_zero, Nat.sub_zero]) <;> omega)) rfl
    · unfold f_X7_feed
      refine e_nm (e_neg ?_ rfl)
      show ¬ u2 IM 0 1 (nz 0) 0 8 + (20 : Int32) ≤ (900 : Int32)
      rw [hm']; ((try simp (disch := omega) only [nz_lit, lz_lit, nz_ofNat, neg_nz1, neg_lz1, nz_0_sub_1, nz_add, nz_mul, nz_sub, nz_lt, nz_le, nz_eq, nz_tn, nz_inb, nz_rem, nz_div, nz_min, nz_max, nz_l, mz_l, lz_i, mz_lt_nz, mz_le_nz, nz_lt_mz, nz_le_mz, nz_eq_mz, mz_eq_nz, nz_add_mz, mz_add_nz, lz_add, lz_mul, lz_sub, lz_lt, lz_le, lz_eq, lz_min, lz_max, lz_rem, lz_div, ml_lt_lz, lz_lt_ml, ml_le_lz, lz_le_ml, lz_eq_ml, ml_eq_lz, lg_lt', lg_le', lg_gt', lg_ge', lg_eq', u2_hit, u2_mis, if_true, if_false, eq_self, and_true, true_and, and_false, false_and, or_true, true_or, or_false, false_or, not_true_eq_false, not_false_eq_true, oz_0, oz_s, bo_0, bo_1, bo_01, bo_bo, Bool.false_eq_true, Bool.true_eq_false, Nat.reduceEqDiff, Nat.reduceAdd, Nat.reduceMul, Nat.reduceSub, Nat.zero_add, Nat.add_zero, Nat.sub_zero]) <;> omega)
