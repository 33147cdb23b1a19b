set_option maxRecDepth 100000
/-! back -/
theorem op_50 : OP_50 Inv := by
  intro g IX JX IM JM h _
  obtain ⟨S, Q, w, B, mk, wk, C, hh⟩ := id h
  obtain ⟨h1, h2, h3, h4, h5, h6, h7, h8, h9, h10⟩ := id hh
  obtain ⟨⟨m3, mx, mm⟩, hm⟩ := h8
  have mm0 : i0 IM 0 23 = nz mk := by unfold i0; rw [u2_mis (by omega), u2_mis (by omega)]; exact mm
  cases mk with
  | zero =>
    exact ⟨mz, u2 IX 4 8 (nz 8), g, u2 (i0 IM) 0 0 (nz 8), by
      unfold f_X0_back
      exact e_pos mx (e_cb2 (x_none _) rfl), by
      unfold f_X7_back
      refine e_nm (e_nm ?_)
      rw [m_i0]
      exact e_pos mm0 (e_cb2 (m_refuse _) rfl), h.ro (st := nz 8) (fun Q => roX_st Q IX _) (roXJ_rfl _) (roM_ref (frM_rfl _)) (roMJ_rfl _)⟩
  | succ j =>
    obtain ⟨r0, n0⟩ := h1.2.2.2 j (by omega)
    obtain ⟨d1, d2, d3, d4⟩ := hm j (by omega)
    obtain ⟨I3, e3, p3, k3⟩ := m_copy (i0 IM) JM (a := j + 1) (b := 0) (by omega) (by omega) (by omega)
    have sS : ∀ i, S i ∨ Q i → ¬ (i = 4) ∧ ¬ (230 ≤ i ∧ i ≤ 235) ∧ i ≠ 10 := fun i e => by
      rcases e with e | e
      · have := (h1.2.1 i e).1; omega
      · have := (h1.2.2.1 i e).1; omega
    have ej : IX 4 38 - (1 : Int32) = nz j := by rw [mx]; simp (disch := omega) only [nz_lit, lz_lit, nz_ofNat, neg_nz1, neg_lz1, nz_0_sub_1, nz_add, nz_mul, nz_sub, nz_lt, nz_le, nz_eq, nz_tn, nz_inb, nz_rem, nz_div, nz_min, nz_max, nz_l, mz_l, lz_i, mz_lt_nz, mz_le_nz, nz_lt_mz, nz_le_mz, nz_eq_mz, mz_eq_nz, nz_add_mz, mz_add_nz, lz_add, lz_mul, lz_sub, lz_lt, lz_le, lz_eq, lz_min, lz_max, lz_rem, lz_div, ml_lt_lz, lz_lt_ml, ml_le_lz, lz_le_ml, lz_eq_ml, ml_eq_lz, lg_lt', lg_le', lg_gt', lg_ge', lg_eq', u2_hit, u2_mis, if_true, if_false, eq_self, and_true, true_and, and_false, false_and, or_true, true_or, or_false, false_or, not_true_eq_false, not_false_eq_true, oz_0, oz_s, bo_0, bo_1, bo_01, bo_bo, Bool.false_eq_true, Bool.true_eq_false, Nat.reduceEqDiff, Nat.reduceAdd, Nat.reduceMul, Nat.reduceSub, Nat.zero_add, Nat.add_zero, Nat.sub_zero, Nat.add_sub_cancel]
    refine ⟨nz j, u2 (u2 (u2 (cpI (u2 IX 4 38 (nz j)) (231 + j * 2) 0 10 0 96) 4 6 (IX (230 + j * 2) 3)) 4 7 (IX (230 + j * 2) 4)) 4 8 (nz 0), uR (uR g 4 4 (some (wk j))) 4 5 (sR g (230 + j * 2) 2), u2 I3 0 23 (nz j), ?_, ?_, ?_⟩
    · unfold f_X0_back
      refine e_neg (by rw [mx]; ((try simp (disch := omega) only [nz_lit, lz_lit, nz_ofNat, neg_nz1, neg_lz1, nz_0_sub_1, nz_add, nz_mul, nz_sub, nz_lt, nz_le, nz_eq, nz_tn, nz_inb, nz_rem, nz_div, nz_min, nz_max, nz_l, mz_l, lz_i, mz_lt_nz, mz_le_nz, nz_lt_mz, nz_le_mz, nz_eq_mz, mz_eq_nz, nz_add_mz, mz_add_nz, lz_add, lz_mul, lz_sub, lz_lt, lz_le, lz_eq, lz_min, lz_max, lz_rem, lz_div, ml_lt_lz, lz_lt_ml, ml_le_lz, lz_le_ml, lz_eq_ml, ml_eq_lz, lg_lt', lg_le', lg_gt', lg_ge', lg_eq', u2_hit, u2_mis, if_true, if_false, eq_self, and_true, true_and, and_false, false_and, or_true, true_or, or_false, false_or, not_true_eq_false, not_false_eq_true, oz_0, oz_s, bo_0, bo_1, bo_01, bo_bo, Bool.false_eq_true, Bool.true_eq_false, Nat.reduceEqDiff, Nat.reduceAdd, Nat.reduceMul, Nat.reduceSub, Nat.zero_add, Nat.add_zero, Nat.sub_zero]) <;> omega)) (e_nm ?_)
      rw [ej]
      have e38 : u2 IX 4 38 (nz j) 4 38 = nz j := u2_hit ⟨rfl, rfl⟩
      have hn : (u2 IX 4 38 (nz j) 4 38).toNatClampNeg = j := by rw [e38, nz_tn (by omega)]
      refine e_ck (by rw [e38, nz_inb (by omega)]; omega) ?_
      rw [hn]
      refine e_nn r0 (e_ck (by rw [n0]; omega) (e_nm (e_nn d1 (e_nm (e_nm (e_nm (e_nm ?_)))))))
      refine e_cb2 (x_gives _) ?_
      have a4 : sR (uR g 4 4 (some (wk j))) (230 + j * 2) 2 = sR g (230 + j * 2) 2 := by rw [sR_uR, if_neg (by omega)]
      rw [a4]
      have fin : ∀ (X : MI) (G : Sh), X (230 + j * 2) 3 = IX (230 + j * 2) 3 → X (230 + j * 2) 4 = IX (230 + j * 2) 4 → X 4 38 = nz j → some (u2 (u2 X 4 6 (X (230 + j * 2) 3)) 4 7 (u2 X 4 6 (X (230 + j * 2) 3) (230 + j * 2) 4) 4 38, u2 (u2 (u2 X 4 6 (X (230 + j * 2) 3)) 4 7 (u2 X 4 6 (X (230 + j * 2) 3) (230 + j * 2) 4)) 4 8 (nz 0), G) = some (nz j, u2 (u2 (u2 X 4 6 (IX (230 + j * 2) 3)) 4 7 (IX (230 + j * 2) 4)) 4 8 (nz 0), G) := fun X G b1 b2 b3 => by
        have a2 : ∀ v, u2 X 4 6 v (230 + j * 2) 4 = IX (230 + j * 2) 4 := fun v => by rw [u2_mis (by omega), b2]
        have a3 : ∀ v v', u2 (u2 X 4 6 v) 4 7 v' 4 38 = nz j := fun v v' => by rw [u2_mis (by omega), u2_mis (by omega), b3]
        rw [a3, a2, b1]
      exact fin _ _ ((cpI_mis (by omega)).trans (u2_mis (by omega))) ((cpI_mis (by omega)).trans (u2_mis (by omega))) ((cpI_mis (by omega)).trans e38)
    · unfold f_X7_back
      refine e_nm (e_nm ?_)
      rw [m_i0]
      refine e_neg (by rw [mm0]; ((try simp (disch := omega) only [nz_lit, lz_lit, nz_ofNat, neg_nz1, neg_lz1, nz_0_sub_1, nz_add, nz_mul, nz_sub, nz_lt, nz_le, nz_eq, nz_tn, nz_inb, nz_rem, nz_div, nz_min, nz_max, nz_l, mz_l, lz_i, mz_lt_nz, mz_le_nz, nz_lt_mz, nz_le_mz, nz_eq_mz, mz_eq_nz, nz_add_mz, mz_add_nz, lz_add, lz_mul, lz_sub, lz_lt, lz_le, lz_eq, lz_min, lz_max, lz_rem, lz_div, ml_lt_lz, lz_lt_ml, ml_le_lz, lz_le_ml, lz_eq_ml, ml_eq_lz, lg_lt', lg_le', lg_gt', lg_ge', lg_eq', u2_hit, u2_mis, if_true, if_false, eq_self, and_true, true_and, and_false, false_and, or_true, true_or, or_false, false_or, not_true_eq_false, not_false_eq_true, oz_0, oz_s, bo_0, bo_1, bo_01, bo_bo, Bool.false_eq_true, Bool.true_eq_false, Nat.reduceEqDiff, Nat.reduceAdd, Nat.reduceMul, Nat.reduceSub, Nat.zero_add, Nat.add_zero, Nat.sub_zero]) <;> omega)) ?_
      rw [mm0]
      refine e_cb e3 ?_
      have b1 : I3 0 23 - (1 : Int32) = nz j := by rw [k3 0 23 (by omega), mm0]; simp (disch := omega) only [nz_lit, lz_lit, nz_ofNat, neg_nz1, neg_lz1, nz_0_sub_1, nz_add, nz_mul, nz_sub, nz_lt, nz_le, nz_eq, nz_tn, nz_inb, nz_rem, nz_div, nz_min, nz_max, nz_l, mz_l, lz_i, mz_lt_nz, mz_le_nz, nz_lt_mz, nz_le_mz, nz_eq_mz, mz_eq_nz, nz_add_mz, mz_add_nz, lz_add, lz_mul, lz_sub, lz_lt, lz_le, lz_eq, lz_min, lz_max, lz_rem, lz_div, ml_lt_lz, lz_lt_ml, ml_le_lz, lz_le_ml, lz_eq_ml, ml_eq_lz, lg_lt', lg_le', lg_gt', lg_ge', lg_eq', u2_hit, u2_mis, if_true, if_false, eq_self, and_true, true_and, and_false, false_and, or_true, true_or, or_false, false_or, not_true_eq_false, not_false_eq_true, oz_0, oz_s, bo_0, bo_1, bo_01, bo_bo, Bool.false_eq_true, Bool.true_eq_false, Nat.reduceEqDiff, Nat.reduceAdd, Nat.reduceMul, Nat.reduceSub, Nat.zero_add, Nat.add_zero, Nat.sub_zero, Nat.add_sub_cancel]
      rw [b1]
      refine e_nm ?_
      rw [u2_hit ⟨rfl, rfl⟩]
    · have kx : ∀ i k, i ≠ 10 → ¬ (i = 4 ∧ (k = 6 ∨ k = 7 ∨ k = 38 ∨ k = 8)) → u2 (u2 (u2 (cpI (u2 IX 4 38 (nz j)) (231 + j * 2) 0 10 0 96) 4 6 (IX (230 + j * 2) 3)) 4 7 (IX (230 + j * 2) 4)) 4 8 (nz 0) i k = IX i k := fun i k a c => by rw [u2_mis (by omega), u2_mis (by omega), u2_mis (by omega), cpI_mis a, u2_mis (by omega)]
      have km : ∀ i k, ¬ (i = 5 ∧ k < 360) → ¬ (i = 0 ∧ (k = 0 ∨ k = 1 ∨ k = 23)) → u2 I3 0 23 (nz j) i k = IM i k := fun i k a b => by
        rw [u2_mis (by omega), k3 i k (by omega)]
        unfold i0
        rw [u2_mis (by omega), u2_mis (by omega)]
      have gR : ∀ i k, ¬ (i = 4 ∧ (k = 4 ∨ k = 5)) → sR (uR (uR g 4 4 (some (wk j))) 4 5 (sR g (230 + j * 2) 2)) i k = sR g i k := fun i k a => by rw [sR_uR, if_neg (by omega), sR_uR, if_neg (by omega)]
      have kSQ : ∀ i k, S i ∨ Q i → u2 (u2 (u2 (cpI (u2 IX 4 38 (nz j)) (231 + j * 2) 0 10 0 96) 4 6 (IX (230 + j * 2) 3)) 4 7 (IX (230 + j * 2) 4)) 4 8 (nz 0) i k = IX i k := fun i k e => kx i k (by have := sS i e; omega) (by have := sS i e; omega)
      refine Inv.blk hh (w' := wk j) (B' := C j) (mk' := j) (wk' := wk) (C' := C) ?_ (fun i k a b c => kx i k (by omega) (by omega)) (fun a b c d => km a b (by omega) (by omega)) rfl (fun i k a b => gR i k (by omega)) (fun _ => rfl) (fun _ => rfl) ?_ ?_
      · rw [u2_hit ⟨rfl, rfl⟩, u2_mis (by omega), k3 0 0 (by omega)]; rfl
      · refine ⟨by rw [sR_uR, if_neg (by omega), sR_uR, if_pos ⟨rfl, rfl⟩], fun k hk => ?_, d3, ?_⟩
        · have := p3 k hk
          rw [Nat.mul_zero, Nat.zero_add] at this
          rw [u2_mis (by omega), this]
          unfold i0
          rw [u2_mis (by omega), u2_mis (by omega)]
          exact d2 k hk
        · refine d4.move ?_ ?_ ?_ kSQ (fun i k e => gR i k (by have := sS i e; omega)) (fun _ => rfl) (fun s hs => ?_)
          · rw [sR_uR, if_pos ⟨rfl, rfl⟩]
          · rw [u2_mis (by omega), u2_mis (by omega), u2_hit ⟨rfl, rfl⟩]
          · rw [u2_mis (by omega), u2_hit ⟨rfl, rfl⟩]
          · rw [u2_mis (by omega), u2_mis (by omega), u2_mis (by omega), cpI_hit hs, u2_mis (by omega)]
      · refine ⟨⟨by omega, by rw [u2_mis (by omega), u2_mis (by omega), u2_mis (by omega), cpI_mis (by omega), u2_hit ⟨rfl, rfl⟩], u2_hit ⟨rfl, rfl⟩⟩, fun i hi => ?_⟩
        obtain ⟨f1, f2, f3, f4⟩ := hm i (by omega)
        refine ⟨by rw [gR _ _ (by omega)]; exact f1, fun k hk => by rw [km _ _ (by omega) (by omega)]; exact f2 k hk, f3, ?_⟩
        exact f4.move (gR _ _ (by omega)) (kx _ _ (by omega) (by omega)) (kx _ _ (by omega) (by omega)) kSQ (fun i k e => gR i k (by have := sS i e; omega)) (fun _ => rfl) (fun s hs => kx _ _ (by omega) (by omega))
