set_option maxRecDepth 100000
/-! mark and back -/
theorem Inv.blk {g g' : Sh} {IX IX' : MI} {JX : MJ} {IM IM' : MI} {JM : MJ} {S Q : Nat → Prop} {w w' : Nat} {B B' : Nat → Nat} {mk mk' : Nat} {wk wk' : Nat → Nat} {C C' : Nat → Nat → Nat} (hh : InvC g IX JX IM JM S Q w B mk wk C) (hst : IX' 4 8 = IM' 0 0) (kx : ∀ i k, i ≠ 10 → ¬ (230 ≤ i ∧ i ≤ 235) → ¬ (i = 4 ∧ (k = 6 ∨ k = 7 ∨ k = 8 ∨ k = 38)) → IX' i k = IX i k) (km : ∀ a b, a ≠ 5 → ¬ (a = 0 ∧ (b = 0 ∨ b = 1 ∨ b = 23)) → IM' a b = IM a b) (gX : sX g' = sX g) (gR : ∀ i k, ¬ (i = 4 ∧ (k = 4 ∨ k = 5)) → ¬ (230 ≤ i ∧ i ≤ 235 ∧ (k = 1 ∨ k = 2)) → sR g' i k = sR g i k) (gN : ∀ i, sN g' i = sN g i) (gK : ∀ i, sK g' i = sK g i) (hC : cCur g' IX' IM' S Q w' B') (hM : cMk g' IX' IM' S Q mk' wk' C') : Inv g' IX' JX IM' JM := by
  obtain ⟨h1, h2, h3, h4, h5, h6, h7, h8, h9, h10⟩ := hh
  obtain ⟨s1, s2, s3, s4⟩ := h1
  refine ⟨S, Q, w', B', mk', wk', C', ⟨by omega, fun i q => ⟨(s2 i q).1, by have := (s2 i q).2.1; omega, (s2 i q).2.2⟩, fun i q => ⟨(s3 i q).1, by have := (s3 i q).2; omega⟩, fun j hj => ⟨by rw [gR _ _ (by omega) (by omega)]; exact (s4 j hj).1, by rw [gN]; exact (s4 j hj).2⟩⟩, hst, ?_, ?_, ?_, ?_, hC, hM, ?_, ?_⟩
  · exact h3.keep ⟨rfl, rfl⟩ ⟨rfl, rfl⟩
  · exact h4.keep (fun _ _ q => q) (fun _ _ q => q) (by omega) (fun t ht => gR _ _ (by omega) (by omega)) (fun r _ _ _ _ => ⟨gK r, gN r⟩) (fun t ht => kx _ _ (by omega) (by omega) (by omega)) (fun r k a1 a2 a3 a4 => ⟨kx _ _ (by omega) (by omega) (by omega), rfl⟩) (fun t ht => ⟨km _ _ (by omega) (by omega), km _ _ (by omega) (by omega)⟩) (fun k => rfl)
  · exact h5.keep ⟨kx _ _ (by omega) (by omega) (by omega), fun k => kx _ _ (by omega) (by omega) (by omega)⟩ ⟨km _ _ (by omega) (by omega), fun k => km _ _ (by omega) (by omega)⟩
  · exact h6.keep ⟨kx _ _ (by omega) (by omega) (by omega), kx _ _ (by omega) (by omega) (by omega)⟩ ⟨km _ _ (by omega) (by omega), km _ _ (by omega) (by omega)⟩
  · exact h9.keep ⟨⟨kx _ _ (by omega) (by omega) (by omega), kx _ _ (by omega) (by omega) (by omega)⟩, fun k => ⟨kx _ _ (by omega) (by omega) (by omega), kx _ _ (by omega) (by omega) (by omega)⟩⟩ ⟨⟨km _ _ (by omega) (by omega), km _ _ (by omega) (by omega)⟩, fun k => ⟨km _ _ (by omega) (by omega), km _ _ (by omega) (by omega)⟩⟩
  · exact h10.keep ⟨kx _ _ (by omega) (by omega) (by omega), fun k => kx _ _ (by omega) (by omega) (by omega)⟩ ⟨km _ _ (by omega) (by omega), fun k => km _ _ (by omega) (by omega)⟩
/-- a side's block at another place -/
theorem BX.move {g g' : Sh} {I I' : MI} {S Q : Nat → Prop} {w : Nat} {so so' : Option Nat} {n n' h h' : Int32} {na na' : Nat} {B : Nat → Nat} (hb : BX g I S Q w so n h na B) (es : so' = so) (en : n' = n) (eh : h' = h) (hI : ∀ i k, S i ∨ Q i → I' i k = I i k) (hR : ∀ i k, S i ∨ Q i → sR g' i k = sR g i k) (hN : ∀ i, sN g' i = sN g i) (hna : ∀ s, s < 96 → I' na' s = I na s) : BX g' I' S Q w so' n' h' na' B := by
  subst es; subst en; subst eh
  exact ⟨hb.1.keep (fun i k q => hI i k (Or.inl q)) (fun i k q => hR i k (Or.inl q)) (fun i _ => hN i), fun s hs => by rw [hna s hs]; exact hb.2.1 s hs, hb.2.2.1, hb.2.2.2.keep (fun i k q _ => hI i k (Or.inr q)) (fun i k q => hR i k (Or.inr q)) (fun i _ => hN i) (fun _ _ _ => rfl)⟩
theorem m_copy (I : MI) (J : MJ) {a b : Nat} (ha : a < 5) (hb : b < 5) (hab : a ≠ b) : ∃ I', f_X7_copy I J (nz a) (nz b) = some I' ∧ (∀ k, k < 360 → I' 5 (360 * b + k) = I 5 (360 * a + k)) ∧ ∀ i k, ¬ (i = 5 ∧ 360 * b ≤ k ∧ k < 360 * b + 360) → I' i k = I i k := by
  have key := lp_inv (step := un2 (f_X7_copy_s2 J (nz a) (nz b))) (fun j x => ∃ I', x = (nz j, I') ∧ (∀ k, k < j → I' 5 (360 * b + k) = I 5 (360 * a + k)) ∧ ∀ i k, ¬ (i = 5 ∧ 360 * b ≤ k ∧ k < 360 * b + 360) → I' i k = I i k) (fun I' => (∀ k, k < 360 → I' 5 (360 * b + k) = I 5 (360 * a + k)) ∧ ∀ i k, ¬ (i = 5 ∧ 360 * b ≤ k ∧ k < 360 * b + 360) → I' i k = I i k) 360 (fun j x hj hx => ?_) (fun x hx => ?_) (s0 := (nz 0, I)) ⟨I, rfl, (fun k hk => absurd hk (Nat.not_lt_zero _)), fun _ _ _ => rfl⟩ (n := FU) (FUl (by omega))
  · obtain ⟨I', e, q⟩ := key
    refine ⟨I', ?_, q⟩
    unfold f_X7_copy
    exact e_cb e rfl
  · obtain ⟨I', rfl, p, q⟩ := hx
    have e1 : (360 : Int32) * nz a + nz j = nz (360 * a + j) := by simp (disch := omega) only [nz_lit, lz_lit, nz_ofNat, neg_nz1, neg_lz1, nz_0_sub_1, nz_add, nz_mul, nz_sub, nz_lt, nz_le, nz_eq, nz_tn, nz_inb, nz_rem, nz_div, nz_min, nz_max, nz_l, mz_l, lz_i, mz_lt_nz, mz_le_nz, nz_lt_mz, nz_le_mz, nz_eq_mz, mz_eq_nz, nz_add_mz, mz_add_nz, lz_add, lz_mul, lz_sub, lz_lt, lz_le, lz_eq, lz_min, lz_max, lz_rem, lz_div, ml_lt_lz, lz_lt_ml, ml_le_lz, lz_le_ml, lz_eq_ml, ml_eq_lz, lg_lt', lg_le', lg_gt', lg_ge', lg_eq', u2_hit, u2_mis, if_true, if_false, eq_self, and_true, true_and, and_false, false_and, or_true, true_or, or_false, false_or, not_true_eq_false, not_false_eq_true, oz_0, oz_s, bo_0, bo_1, bo_01, bo_bo, Bool.false_eq_true, Bool.true_eq_false, Nat.reduceEqDiff, Nat.reduceAdd, Nat.reduceMul, Nat.reduceSub, Nat.zero_add, Nat.add_zero, Nat.sub_zero]
    have e2 : (360 : Int32) * nz b + nz j = nz (360 * b + j) := by simp (disch := omega) only [nz_lit, lz_lit, nz_ofNat, neg_nz1, neg_lz1, nz_0_sub_1, nz_add, nz_mul, nz_sub, nz_lt, nz_le, nz_eq, nz_tn, nz_inb, nz_rem, nz_div, nz_min, nz_max, nz_l, mz_l, lz_i, mz_lt_nz, mz_le_nz, nz_lt_mz, nz_le_mz, nz_eq_mz, mz_eq_nz, nz_add_mz, mz_add_nz, lz_add, lz_mul, lz_sub, lz_lt, lz_le, lz_eq, lz_min, lz_max, lz_rem, lz_div, ml_lt_lz, lz_lt_ml, ml_le_lz, lz_le_ml, lz_eq_ml, ml_eq_lz, lg_lt', lg_le', lg_gt', lg_ge', lg_eq', u2_hit, u2_mis, if_true, if_false, eq_self, and_true, true_and, and_false, false_and, or_true, true_or, or_false, false_or, not_true_eq_false, not_false_eq_true, oz_0, oz_s, bo_0, bo_1, bo_01, bo_bo, Bool.false_eq_true, Bool.true_eq_false, Nat.reduceEqDiff, Nat.reduceAdd, Nat.reduceMul, Nat.reduceSub, Nat.zero_add, Nat.add_zero, Nat.sub_zero]
    refine ⟨(nz (j + 1), u2 I' 5 (360 * b + j) (I 5 (360 * a + j))), ?_, _, rfl, fun k hk => ?_, fun i k c => by rw [u2_mis (by omega)]; exact q i k c⟩
    · dsimp only [un2, f_X7_copy_s2]
      refine e_neg (by ((try simp (disch := omega) only [nz_lit, lz_lit, nz_ofNat, neg_nz1, neg_lz1, nz_0_sub_1, nz_add, nz_mul, nz_sub, nz_lt, nz_le, nz_eq, nz_tn, nz_inb, nz_rem, nz_div, nz_min, nz_max, nz_l, mz_l, lz_i, mz_lt_nz, mz_le_nz, nz_lt_mz, nz_le_mz, nz_eq_mz, mz_eq_nz, nz_add_mz, mz_add_nz, lz_add, lz_mul, lz_sub, lz_lt, lz_le, lz_eq, lz_min, lz_max, lz_rem, lz_div, ml_lt_lz, lz_lt_ml, ml_le_lz, lz_le_ml, lz_eq_ml, ml_eq_lz, lg_lt', lg_le', lg_gt', lg_ge', lg_eq', u2_hit, u2_mis, if_true, if_false, eq_self, and_true, true_and, and_false, false_and, or_true, true_or, or_false, false_or, not_true_eq_false, not_false_eq_true, oz_0, oz_s, bo_0, bo_1, bo_01, bo_bo, Bool.false_eq_true, Bool.true_eq_false, Nat.reduceEqDiff, Nat.reduceAdd, Nat.reduceMul, Nat.reduceSub, Nat.zero_add, Nat.add_zero, Nat.sub_zero]) <;> omega)) ?_
      rw [e1, e2]
      refine e_ck (by rw [nz_inb (by omega)]; omega) (e_ck (by rw [nz_inb (by omega)]; omega) (e_nm (e_nm ?_)))
      rw [nz_tn (by omega), nz_tn (by omega), q 5 (360 * a + j) (by omega)]
      (repeat (first | (with_reducible rfl) | with_reducible refine e_nm ?_ | (with_reducible refine e_ck ?_ ?_; · ((try simp (disch := omega) only [nz_lit, lz_lit, nz_ofNat, neg_nz1, neg_lz1, nz_0_sub_1, nz_add, nz_mul, nz_sub, nz_lt, nz_le, nz_eq, nz_tn, nz_inb, nz_rem, nz_div, nz_min, nz_max, nz_l, mz_l, lz_i, mz_lt_nz, mz_le_nz, nz_lt_mz, nz_le_mz, nz_eq_mz, mz_eq_nz, nz_add_mz, mz_add_nz, lz_add, lz_mul, lz_sub, lz_lt, lz_le, lz_eq, lz_min, lz_max, lz_rem, lz_div, ml_lt_lz, lz_lt_ml, ml_le_lz, lz_le_ml, lz_eq_ml, ml_eq_lz, lg_lt', lg_le', lg_gt', lg_ge', lg_eq', u2_hit, u2_mis, if_true, if_false, eq_self, and_true, true_and, and_false, false_and, or_true, true_or, or_false, false_or, not_true_eq_false, not_false_eq_true, oz_0, oz_s, bo_0, bo_1, bo_01, bo_bo, Bool.false_eq_true, Bool.true_eq_false, Nat.reduceEqDiff, Nat.reduceAdd, Nat.reduceMul, Nat.reduceSub, Nat.zero_add, Nat.add_zero, Nat.sub_zero]) <;> omega)) | (with_reducible refine e_pos ?_ ?_; · ((try simp (disch := omega) only [nz_lit, lz_lit, nz_ofNat, neg_nz1, neg_lz1, nz_0_sub_1, nz_add, nz_mul, nz_sub, nz_lt, nz_le, nz_eq, nz_tn, nz_inb, nz_rem, nz_div, nz_min, nz_max, nz_l, mz_l, lz_i, mz_lt_nz, mz_le_nz, nz_lt_mz, nz_le_mz, nz_eq_mz, mz_eq_nz, nz_add_mz, mz_add_nz, lz_add, lz_mul, lz_sub, lz_lt, lz_le, lz_eq, lz_min, lz_max, lz_rem, lz_div, ml_lt_lz, lz_lt_ml, ml_le_lz, lz_le_ml, lz_eq_ml, ml_eq_lz, lg_lt', lg_le', lg_gt', lg_ge', lg_eq', u2_hit, u2_mis, if_true, if_false, eq_self, and_true, true_and, and_false, false_and, or_true, true_or, or_false, false_or, not_true_eq_false, not_false_eq_true, oz_0, oz_s, bo_0, bo_1, bo_01, bo_bo, Bool.false_eq_true, Bool.true_eq_false, Nat.reduceEqDiff, Nat.reduceAdd, Nat.reduceMul, Nat.reduceSub, Nat.zero_add, Nat.add_zero, Nat.sub_zero]) <;> omega)) | (with_reducible refine e_neg ?_ ?_; · ((try simp (disch := omega) only [nz_lit, lz_lit, nz_ofNat, neg_nz1, neg_lz1, nz_0_sub_1, nz_add, nz_mul, nz_sub, nz_lt, nz_le, nz_eq, nz_tn, nz_inb, nz_rem, nz_div, nz_min, nz_max, nz_l, mz_l, lz_i, mz_lt_nz, mz_le_nz, nz_lt_mz, nz_le_mz, nz_eq_mz, mz_eq_nz, nz_add_mz, mz_add_nz, lz_add, lz_mul, lz_sub, lz_lt, lz_le, lz_eq, lz_min, lz_max, lz_rem, lz_div, ml_lt_lz, lz_lt_ml, ml_le_lz, lz_le_ml, lz_eq_ml, ml_eq_lz, lg_lt', lg_le', lg_gt', lg_ge', lg_eq', u2_hit, u2_mis, if_true, if_false, eq_self, and_true, true_and, and_false, false_and, or_true, true_or, or_false, false_or, not_true_eq_false, not_false_eq_true, oz_0, oz_s, bo_0, bo_1, bo_01, bo_bo, Bool.false_eq_true, Bool.true_eq_false, Nat.reduceEqDiff, Nat.reduceAdd, Nat.reduceMul, Nat.reduceSub, Nat.zero_add, Nat.add_zero, Nat.sub_zero]) <;> omega)) | (with_reducible apply e_nn; · ((try simp (disch := omega) only [nz_lit, lz_lit, nz_ofNat, neg_nz1, neg_lz1, nz_0_sub_1, nz_add, nz_mul, nz_sub, nz_lt, nz_le, nz_eq, nz_tn, nz_inb, nz_rem, nz_div, nz_min, nz_max, nz_l, mz_l, lz_i, mz_lt_nz, mz_le_nz, nz_lt_mz, nz_le_mz, nz_eq_mz, mz_eq_nz, nz_add_mz, mz_add_nz, lz_add, lz_mul, lz_sub, lz_lt, lz_le, lz_eq, lz_min, lz_max, lz_rem, lz_div, ml_lt_lz, lz_lt_ml, ml_le_lz, lz_le_ml, lz_eq_ml, ml_eq_lz, lg_lt', lg_le', lg_gt', lg_ge', lg_eq', u2_hit, u2_mis, if_true, if_false, eq_self, and_true, true_and, and_false, false_and, or_true, true_or, or_false, false_or, not_true_eq_false, not_false_eq_true, oz_0, oz_s, bo_0, bo_1, bo_01, bo_bo, Bool.false_eq_true, Bool.true_eq_false, Nat.reduceEqDiff, Nat.reduceAdd, Nat.reduceMul, Nat.reduceSub, Nat.zero_add, Nat.add_zero, Nat.sub_zero]) <;> rfl)) | with_reducible apply e_cb2 | with_reducible apply e_cb3 | with_reducible apply e_cb4 | with_reducible apply e_cb5 | with_reducible apply e_cb | with_reducible refine e_jn ?_ | with_reducible refine e_ekl2 ?_ | with_reducible refine e_ekl3 ?_ | with_reducible refine e_ekl4 ?_ | with_reducible refine e_ekl ?_ | with_reducible refine e_ekr2 ?_ | with_reducible refine e_ekr3 ?_ | with_reducible refine e_ekr ?_ | (simp (disch := omega) only [nz_lit, lz_lit, nz_ofNat, neg_nz1, neg_lz1, nz_0_sub_1, nz_add, nz_mul, nz_sub, nz_lt, nz_le, nz_eq, nz_tn, nz_inb, nz_rem, nz_div, nz_min, nz_max, nz_l, mz_l, lz_i, mz_lt_nz, mz_le_nz, nz_lt_mz, nz_le_mz, nz_eq_mz, mz_eq_nz, nz_add_mz, mz_add_nz, lz_add, lz_mul, lz_sub, lz_lt, lz_le, lz_eq, lz_min, lz_max, lz_rem, lz_div, ml_lt_lz, lz_lt_ml, ml_le_lz, lz_le_ml, lz_eq_ml, ml_eq_lz, lg_lt', lg_le', lg_gt', lg_ge', lg_eq', u2_hit, u2_mis, if_true, if_false, eq_self, and_true, true_and, and_false, false_and, or_true, true_or, or_false, false_or, not_true_eq_false, not_false_eq_true, oz_0, oz_s, bo_0, bo_1, bo_01, bo_bo, Bool.false_eq_true, Bool.true_eq_false, Nat.reduceEqDiff, Nat.reduceAdd, Nat.reduceMul, Nat.reduceSub, Nat.zero_add, Nat.add_zero, Nat.sub_zero]; done) | (simp (disch := omega) only [nz_lit, lz_lit, nz_ofNat, neg_nz1, neg_lz1, nz_0_sub_1, nz_add, nz_mul, nz_sub, nz_lt, nz_le, nz_eq, nz_tn, nz_inb, nz_rem, nz_div, nz_min, nz_max, nz_l, mz_l, lz_i, mz_lt_nz, mz_le_nz, nz_lt_mz, nz_le_mz, nz_eq_mz, mz_eq_nz, nz_add_mz, mz_add_nz, lz_add, lz_mul, lz_sub, lz_lt, lz_le, lz_eq, lz_min, lz_max, lz_rem, lz_div, ml_lt_lz, lz_lt_ml, ml_le_lz, lz_le_ml, lz_eq_ml, ml_eq_lz, lg_lt', lg_le', lg_gt', lg_ge', lg_eq', u2_hit, u2_mis, if_true, if_false, eq_self, and_true, true_and, and_false, false_and, or_true, true_or, or_false, false_or, not_true_eq_false, not_false_eq_true, oz_0, oz_s, bo_0, bo_1, bo_01, bo_bo, Bool.false_eq_true, Bool.true_eq_false, Nat.reduceEqDiff, Nat.reduceAdd, Nat.reduceMul, Nat.reduceSub, Nat.zero_add, Nat.add_zero, Nat.sub_zero]; with_reducible rfl)))
    · by_cases z : k = j
      · subst z; exact u2_hit ⟨rfl, rfl⟩
      · rw [u2_mis (by omega)]; exact p k (by omega)
  · obtain ⟨I', rfl, q⟩ := hx
    refine ⟨I', ?_, q⟩
    dsimp only [un2, f_X7_copy_s2]
    exact e_pos (by ((try simp (disch := omega) only [nz_lit, lz_lit, nz_ofNat, neg_nz1, neg_lz1, nz_0_sub_1, nz_add, nz_mul, nz_sub, nz_lt, nz_le, nz_eq, nz_tn, nz_inb, nz_rem, nz_div, nz_min, nz_max, nz_l, mz_l, lz_i, mz_lt_nz, mz_le_nz, nz_lt_mz, nz_le_mz, nz_eq_mz, mz_eq_nz, nz_add_mz, mz_add_nz, lz_add, lz_mul, lz_sub, lz_lt, lz_le, lz_eq, lz_min, lz_max, lz_rem, lz_div, ml_lt_lz, lz_lt_ml, ml_le_lz, lz_le_ml, lz_eq_ml, ml_eq_lz, lg_lt', lg_le', lg_gt', lg_ge', lg_eq', u2_hit, u2_mis, if_true, if_false, eq_self, and_true, true_and, and_false, false_and, or_true, true_or, or_false, false_or, not_true_eq_false, not_false_eq_true, oz_0, oz_s, bo_0, bo_1, bo_01, bo_bo, Bool.false_eq_true, Bool.true_eq_false, Nat.reduceEqDiff, Nat.reduceAdd, Nat.reduceMul, Nat.reduceSub, Nat.zero_add, Nat.add_zero, Nat.sub_zero]) <;> omega)) rfl
theorem cpI_hit {I : MI} {s d b : Nat} (h : b < 96) : cpI I s 0 d 0 96 d b = I s b := by
  show (if d = d ∧ 0 ≤ b ∧ b < 0 + 96 then I s (0 + (b - 0)) else I d b) = _
  rw [if_pos (by omega)]
  congr 1
  omega
theorem cpI_mis {I : MI} {s d a b : Nat} (h : a ≠ d) : cpI I s 0 d 0 96 a b = I a b := if_neg (fun e => h e.1)
theorem op_49 : OP_49 Inv := by
  intro g IX JX IM JM h _
  obtain ⟨S, Q, w, B, mk, wk, C, hh⟩ := id h
  obtain ⟨h1, h2, h3, h4, h5, h6, h7, h8, h9, h10⟩ := id hh
  obtain ⟨⟨m3, mx, mm⟩, hm⟩ := h8
  obtain ⟨c1, c2, c3, c4⟩ := id h7
  have mm0 : i0 IM 0 23 = nz mk := by unfold i0; rw [u2_mis (by omega), u2_mis (by omega)]; exact mm
  by_cases q : mk = 3
  · subst q
    exact ⟨mz, u2 IX 4 8 (nz 7), g, u2 (i0 IM) 0 0 (nz 7), by
      unfold f_X0_mark
      exact e_pos mx (e_cb2 (x_none _) rfl), by
      unfold f_X7_mark
      refine e_nm (e_nm ?_)
      rw [m_i0]
      exact e_pos mm0 (e_cb2 (m_refuse _) rfl), h.ro (st := nz 7) (fun Q => roX_st Q IX _) (roXJ_rfl _) (roM_ref (frM_rfl _)) (roMJ_rfl _)⟩
  · have hn : (IX 4 38).toNatClampNeg = mk := by rw [mx, nz_tn (by omega)]
    obtain ⟨r0, n0⟩ := h1.2.2.2 mk (by omega)
    obtain ⟨I4, e4, p4, k4⟩ := m_copy (u2 (i0 IM) 0 23 (nz (mk + 1))) JM (a := 0) (b := mk + 1) (by omega) (by omega) (by omega)
    have sS : ∀ i, S i ∨ Q i → ¬ (i = 4) ∧ ¬ (230 ≤ i ∧ i ≤ 235) ∧ i ≠ 10 := fun i e => by
      rcases e with e | e
      · have := (h1.2.1 i e).1; omega
      · have := (h1.2.2.1 i e).1; omega
    refine ⟨nz (mk + 1), u2 (u2 (u2 (u2 (cpI IX 10 0 (231 + mk * 2) 0 96) (230 + mk * 2) 3 (IX 4 6)) (230 + mk * 2) 4 (IX 4 7)) 4 38 (nz (mk + 1))) 4 8 (nz 0), uR (uR g (230 + mk * 2) 1 (some w)) (230 + mk * 2) 2 (sR g 4 5), I4, ?_, ?_, ?_⟩
    · unfold f_X0_mark
      refine e_neg (by rw [mx]; ((try simp (disch := omega) only [nz_lit, lz_lit, nz_ofNat, neg_nz1, neg_lz1, nz_0_sub_1, nz_add, nz_mul, nz_sub, nz_lt, nz_le, nz_eq, nz_tn, nz_inb, nz_rem, nz_div, nz_min, nz_max, nz_l, mz_l, lz_i, mz_lt_nz, mz_le_nz, nz_lt_mz, nz_le_mz, nz_eq_mz, mz_eq_nz, nz_add_mz, mz_add_nz, lz_add, lz_mul, lz_sub, lz_lt, lz_le, lz_eq, lz_min, lz_max, lz_rem, lz_div, ml_lt_lz, lz_lt_ml, ml_le_lz, lz_le_ml, lz_eq_ml, ml_eq_lz, lg_lt', lg_le', lg_gt', lg_ge', lg_eq', u2_hit, u2_mis, if_true, if_false, eq_self, and_true, true_and, and_false, false_and, or_true, true_or, or_false, false_or, not_true_eq_false, not_false_eq_true, oz_0, oz_s, bo_0, bo_1, bo_01, bo_bo, Bool.false_eq_true, Bool.true_eq_false, Nat.reduceEqDiff, Nat.reduceAdd, Nat.reduceMul, Nat.reduceSub, Nat.zero_add, Nat.add_zero, Nat.sub_zero]) <;> omega)) (e_ck (by rw [mx, nz_inb (by omega)]; omega) ?_)
      rw [hn]
      refine e_nn r0 (e_ck (by rw [n0]; omega) (e_nm (e_nn c1 (e_nm (e_nm (e_nm (e_nm (e_nm ?_))))))))
      refine e_cb2 (x_gives _) ?_
      have fin : ∀ (X : MI) (G : Sh), X 4 6 = IX 4 6 → X 4 7 = IX 4 7 → X 4 38 = nz mk → some (u2 (u2 (u2 X (230 + mk * 2) 3 (X 4 6)) (230 + mk * 2) 4 (u2 X (230 + mk * 2) 3 (X 4 6) 4 7)) 4 38 (u2 (u2 X (230 + mk * 2) 3 (X 4 6)) (230 + mk * 2) 4 (u2 X (230 + mk * 2) 3 (X 4 6) 4 7) 4 38 + (1 : Int32)) 4 38, u2 (u2 (u2 (u2 X (230 + mk * 2) 3 (X 4 6)) (230 + mk * 2) 4 (u2 X (230 + mk * 2) 3 (X 4 6) 4 7)) 4 38 (u2 (u2 X (230 + mk * 2) 3 (X 4 6)) (230 + mk * 2) 4 (u2 X (230 + mk * 2) 3 (X 4 6) 4 7) 4 38 + (1 : Int32))) 4 8 (nz 0), G) = some (nz (mk + 1), u2 (u2 (u2 (u2 X (230 + mk * 2) 3 (IX 4 6)) (230 + mk * 2) 4 (IX 4 7)) 4 38 (nz (mk + 1))) 4 8 (nz 0), G) := fun X G b1 b2 b3 => by
        have a2 : ∀ v, u2 X (230 + mk * 2) 3 v 4 7 = IX 4 7 := fun v => by rw [u2_mis (by omega), b2]
        have a3 : ∀ v v', u2 (u2 X (230 + mk * 2) 3 v) (230 + mk * 2) 4 v' 4 38 + (1 : Int32) = nz (mk + 1) := fun v v' => by
          rw [u2_mis (by omega), u2_mis (by omega), b3]
          simp (disch := omega) only [nz_lit, lz_lit, nz_ofNat, neg_nz1, neg_lz1, nz_0_sub_1, nz_add, nz_mul, nz_sub, nz_lt, nz_le, nz_eq, nz_tn, nz_inb, nz_rem, nz_div, nz_min, nz_max, nz_l, mz_l, lz_i, mz_lt_nz, mz_le_nz, nz_lt_mz, nz_le_mz, nz_eq_mz, mz_eq_nz, nz_add_mz, mz_add_nz, lz_add, lz_mul, lz_sub, lz_lt, lz_le, lz_eq, lz_min, lz_max, lz_rem, lz_div, ml_lt_lz, lz_lt_ml, ml_le_lz, lz_le_ml, lz_eq_ml, ml_eq_lz, lg_lt', lg_le', lg_gt', lg_ge', lg_eq', u2_hit, u2_mis, if_true, if_false, eq_self, and_true, true_and, and_false, false_and, or_true, true_or, or_false, false_or, not_true_eq_false, not_false_eq_true, oz_0, oz_s, bo_0, bo_1, bo_01, bo_bo, Bool.false_eq_true, Bool.true_eq_false, Nat.reduceEqDiff, Nat.reduceAdd, Nat.reduceMul, Nat.reduceSub, Nat.zero_add, Nat.add_zero, Nat.sub_zero]
        rw [a3, a2, b1, u2_hit ⟨rfl, rfl⟩]
      have a4 : sR (uR g (230 + mk * 2) 1 (some w)) 4 5 = sR g 4 5 := by rw [sR_uR, if_neg (by omega)]
      rw [a4]
      exact fin _ _ (cpI_mis (by omega)) (cpI_mis (by omega)) ((cpI_mis (by omega)).trans mx)
    · unfold f_X7_mark
      refine e_nm (e_nm ?_)
      rw [m_i0]
      refine e_neg (by rw [mm0]; ((try simp (disch := omega) only [nz_lit, lz_lit, nz_ofNat, neg_nz1, neg_lz1, nz_0_sub_1, nz_add, nz_mul, nz_sub, nz_lt, nz_le, nz_eq, nz_tn, nz_inb, nz_rem, nz_div, nz_min, nz_max, nz_l, mz_l, lz_i, mz_lt_nz, mz_le_nz, nz_lt_mz, nz_le_mz, nz_eq_mz, mz_eq_nz, nz_add_mz, mz_add_nz, lz_add, lz_mul, lz_sub, lz_lt, lz_le, lz_eq, lz_min, lz_max, lz_rem, lz_div, ml_lt_lz, lz_lt_ml, ml_le_lz, lz_le_ml, lz_eq_ml, ml_eq_lz, lg_lt', lg_le', lg_gt', lg_ge', lg_eq', u2_hit, u2_mis, if_true, if_false, eq_self, and_true, true_and, and_false, false_and, or_true, true_or, or_false, false_or, not_true_eq_false, not_false_eq_true, oz_0, oz_s, bo_0, bo_1, bo_01, bo_bo, Bool.false_eq_true, Bool.true_eq_false, Nat.reduceEqDiff, Nat.reduceAdd, Nat.reduceMul, Nat.reduceSub, Nat.zero_add, Nat.add_zero, Nat.sub_zero]) <;> omega)) (e_nm ?_)
      have b1 : i0 IM 0 23 + (1 : Int32) = nz (mk + 1) := by rw [mm0]; simp (disch := omega) only [nz_lit, lz_lit, nz_ofNat, neg_nz1, neg_lz1, nz_0_sub_1, nz_add, nz_mul, nz_sub, nz_lt, nz_le, nz_eq, nz_tn, nz_inb, nz_rem, nz_div, nz_min, nz_max, nz_l, mz_l, lz_i, mz_lt_nz, mz_le_nz, nz_lt_mz, nz_le_mz, nz_eq_mz, mz_eq_nz, nz_add_mz, mz_add_nz, lz_add, lz_mul, lz_sub, lz_lt, lz_le, lz_eq, lz_min, lz_max, lz_rem, lz_div, ml_lt_lz, lz_lt_ml, ml_le_lz, lz_le_ml, lz_eq_ml, ml_eq_lz, lg_lt', lg_le', lg_gt', lg_ge', lg_eq', u2_hit, u2_mis, if_true, if_false, eq_self, and_true, true_and, and_false, false_and, or_true, true_or, or_false, false_or, not_true_eq_false, not_false_eq_true, oz_0, oz_s, bo_0, bo_1, bo_01, bo_bo, Bool.false_eq_true, Bool.true_eq_false, Nat.reduceEqDiff, Nat.reduceAdd, Nat.reduceMul, Nat.reduceSub, Nat.zero_add, Nat.add_zero, Nat.sub_zero]
      rw [b1, u2_hit ⟨rfl, rfl⟩]
      refine e_cb e4 ?_
      rw [k4 0 23 (by omega), u2_hit ⟨rfl, rfl⟩]
    · have kx : ∀ i k, i ≠ 231 + mk * 2 → ¬ (i = 230 + mk * 2 ∧ (k = 3 ∨ k = 4)) → ¬ (i = 4 ∧ (k = 38 ∨ k = 8)) → u2 (u2 (u2 (u2 (cpI IX 10 0 (231 + mk * 2) 0 96) (230 + mk * 2) 3 (IX 4 6)) (230 + mk * 2) 4 (IX 4 7)) 4 38 (nz (mk + 1))) 4 8 (nz 0) i k = IX i k := fun i k a b c => by rw [u2_mis (by omega), u2_mis (by omega), u2_mis (by omega), u2_mis (by omega), cpI_mis a]
      have km : ∀ i k, ¬ (i = 5 ∧ 360 * (mk + 1) ≤ k ∧ k < 360 * (mk + 1) + 360) → ¬ (i = 0 ∧ (k = 0 ∨ k = 1 ∨ k = 23)) → I4 i k = IM i k := fun i k a b => by
        rw [k4 i k a, u2_mis (by omega)]
        unfold i0
        rw [u2_mis (by omega), u2_mis (by omega)]
      have gR : ∀ i k, ¬ (i = 230 + mk * 2 ∧ (k = 1 ∨ k = 2)) → sR (uR (uR g (230 + mk * 2) 1 (some w)) (230 + mk * 2) 2 (sR g 4 5)) i k = sR g i k := fun i k a => by rw [sR_uR, if_neg (by omega), sR_uR, if_neg (by omega)]
      refine Inv.blk hh (w' := w) (B' := B) (mk' := mk + 1) (wk' := fun j => if j = mk then w else wk j) (C' := fun j => if j = mk then B else C j) ?_ (fun i k a b c => kx i k (by omega) (by omega) (by omega)) (fun a b c d => km a b (by omega) (by omega)) rfl (fun i k a b => gR i k (by omega)) (fun _ => rfl) (fun _ => rfl) ?_ ?_
      · rw [u2_hit ⟨rfl, rfl⟩, k4 0 0 (by omega), u2_mis (by omega)]; rfl
      · exact h7.keep (fun _ q => q) (fun _ q => q) (fun i k e => kx i k (by have := sS i (Or.inl e); omega) (by have := sS i (Or.inl e); omega) (by have := sS i (Or.inl e); omega)) (fun i k e _ => kx i k (by have := sS i (Or.inr e); omega) (by have := sS i (Or.inr e); omega) (by have := sS i (Or.inr e); omega)) (fun i k e => gR i k (by have := sS i e; omega)) (fun _ _ => rfl) ⟨gR _ _ (by omega), gR _ _ (by omega)⟩ (fun s _ => kx _ _ (by omega) (by omega) (by omega)) ⟨kx _ _ (by omega) (by omega) (by omega), kx _ _ (by omega) (by omega) (by omega)⟩ (fun k hk => km _ _ (by omega) (by omega))
      · refine ⟨⟨by omega, by rw [u2_mis (by omega), u2_hit ⟨rfl, rfl⟩], by rw [k4 0 23 (by omega), u2_hit ⟨rfl, rfl⟩]⟩, fun j hj => ?_⟩
        have kSQ : ∀ i k, S i ∨ Q i → u2 (u2 (u2 (u2 (cpI IX 10 0 (231 + mk * 2) 0 96) (230 + mk * 2) 3 (IX 4 6)) (230 + mk * 2) 4 (IX 4 7)) 4 38 (nz (mk + 1))) 4 8 (nz 0) i k = IX i k := fun i k e => kx i k (by have := sS i e; omega) (by have := sS i e; omega) (by have := sS i e; omega)
        by_cases z : j = mk
        · subst z
          have ew : (if j = j then w else wk j) = w := if_pos rfl
          have eC : (if j = j then B else C j) = B := if_pos rfl
          show sR _ (230 + j * 2) 1 = some (if j = j then w else wk j) ∧ (∀ k, k < 360 → I4 5 (360 * (j + 1) + k) = nz ((if j = j then B else C j) k)) ∧ WF (if j = j then B else C j) ∧ BX _ _ S Q (if j = j then w else wk j) _ _ _ _ (if j = j then B else C j)
          rw [ew, eC]
          refine ⟨by rw [sR_uR, if_neg (by omega), sR_uR, if_pos ⟨rfl, rfl⟩], fun k hk => ?_, c3, ?_⟩
          · rw [p4 k hk, u2_mis (by omega)]
            unfold i0
            rw [u2_mis (by omega), u2_mis (by omega), Nat.mul_zero, Nat.zero_add]
            exact c2 k hk
          · refine c4.move ?_ ?_ ?_ kSQ (fun i k e => gR i k (by have := sS i e; omega)) (fun _ => rfl) (fun s hs => ?_)
            · rw [sR_uR, if_pos ⟨rfl, rfl⟩]
            · rw [u2_mis (by omega), u2_mis (by omega), u2_mis (by omega), u2_hit ⟨rfl, rfl⟩]
            · rw [u2_mis (by omega), u2_mis (by omega), u2_hit ⟨rfl, rfl⟩]
            · rw [u2_mis (by omega), u2_mis (by omega), u2_mis (by omega), u2_mis (by omega), cpI_hit hs]
        · obtain ⟨d1, d2, d3, d4⟩ := hm j (by omega)
          have ew : (if j = mk then w else wk j) = wk j := if_neg z
          have eC : (if j = mk then B else C j) = C j := if_neg z
          show sR _ (230 + j * 2) 1 = some (if j = mk then w else wk j) ∧ (∀ k, k < 360 → I4 5 (360 * (j + 1) + k) = nz ((if j = mk then B else C j) k)) ∧ WF (if j = mk then B else C j) ∧ BX _ _ S Q (if j = mk then w else wk j) _ _ _ _ (if j = mk then B else C j)
          rw [ew, eC]
          refine ⟨by rw [gR _ _ (by omega)]; exact d1, fun k hk => by rw [km _ _ (by omega) (by omega)]; exact d2 k hk, d3, ?_⟩
          exact d4.move (gR _ _ (by omega)) (kx _ _ (by omega) (by omega) (by omega)) (kx _ _ (by omega) (by omega) (by omega)) kSQ (fun i k e => gR i k (by have := sS i e; omega)) (fun _ => rfl) (fun s hs => kx _ _ (by omega) (by omega) (by omega))
