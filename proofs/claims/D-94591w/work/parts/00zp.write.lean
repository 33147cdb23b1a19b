set_option maxRecDepth 100000
/-! the trays: write -/
/-- a tray or its row is new -/
theorem Inv.tray {g g' : Sh} {IX IX' : MI} {JX JX' : MJ} {IM IM' : MI} {JM JM' : MJ} {S Q : Nat → Prop} {w : Nat} {B : Nat → Nat} {mk : Nat} {wk : Nat → Nat} {C : Nat → Nat → Nat} (hh : InvC g IX JX IM JM S Q w B mk wk C) {r : Nat} (hr : 236 ≤ r ∧ ¬ S r ∧ ¬ Q r) (hst : IX' 4 8 = IM' 0 0) (kx : ∀ i k, i ≠ r → ¬ (i = 4 ∧ k = 8) → ¬ (226 ≤ i ∧ i < 230) → IX' i k = IX i k) (kxj : ∀ i k, i ≠ r → JX' i k = JX i k) (km : ∀ a b, a ≠ 1 → a ≠ 2 → ¬ (a = 0 ∧ (b = 0 ∨ b = 1)) → IM' a b = IM a b) (kmj : ∀ a b, a ≠ 3 → JM' a b = JM a b) (hT : cTr g' IX' JX' IM' JM' S Q) (gX : sX g ≤ sX g') (gR : ∀ i k, ¬ (226 ≤ i ∧ i < 230) → sR g' i k = sR g i k) (gN : ∀ i, i < sX g → sN g' i = sN g i) : Inv g' IX' JX' IM' JM' := by
  obtain ⟨h1, h2, h3, h4, h5, h6, h7, h8, h9, h10⟩ := hh
  obtain ⟨s1, s2, s3, s4⟩ := h1
  have sS : ∀ i, S i → i ≠ r ∧ ¬ (i = 4) ∧ ¬ (226 ≤ i ∧ i < 230) ∧ i < sX g := fun i q => by
    have := s2 i q
    refine ⟨fun e => hr.2.1 (e ▸ q), by omega, by omega, by omega⟩
  have sQ : ∀ i, Q i → i ≠ r ∧ ¬ (i = 4) ∧ ¬ (226 ≤ i ∧ i < 230) ∧ i < sX g := fun i q => by
    have := s3 i q
    refine ⟨fun e => hr.2.2 (e ▸ q), by omega, by omega, by omega⟩
  have sSQ : ∀ i, S i ∨ Q i → ¬ (226 ≤ i ∧ i < 230) ∧ i < sX g := fun i q => by
    rcases q with q | q
    · exact ⟨(sS i q).2.2.1, (sS i q).2.2.2⟩
    · exact ⟨(sQ i q).2.2.1, (sQ i q).2.2.2⟩
  have hSI : ∀ i k, S i → IX' i k = IX i k := fun i k q => kx i k (sS i q).1 (fun e => (sS i q).2.1 e.1) (sS i q).2.2.1
  have hQI : ∀ i k, Q i → k ≠ 5 → IX' i k = IX i k := fun i k q _ => kx i k (sQ i q).1 (fun e => (sQ i q).2.1 e.1) (sQ i q).2.2.1
  refine ⟨S, Q, w, B, mk, wk, C, ⟨by omega, fun i q => ⟨(s2 i q).1, by have := (s2 i q).2.1; omega, (s2 i q).2.2⟩, fun i q => ⟨(s3 i q).1, by have := (s3 i q).2; omega⟩, fun j hj => ⟨by rw [gR _ _ (by omega)]; exact (s4 j hj).1, by rw [gN _ (by omega)]; exact (s4 j hj).2⟩⟩, hst, ?_, hT, ?_, ?_, ?_, ?_, ?_, ?_⟩
  · exact h3.keep ⟨kxj _ _ (by omega), kxj _ _ (by omega)⟩ ⟨kmj _ _ (by omega), kmj _ _ (by omega)⟩
  · exact h5.keep ⟨kx _ _ (by omega) (by omega) (by omega), fun k => kx _ _ (by omega) (by omega) (by omega)⟩ ⟨km _ _ (by omega) (by omega) (by omega), fun k => km _ _ (by omega) (by omega) (by omega)⟩
  · exact h6.keep ⟨kx _ _ (by omega) (by omega) (by omega), kx _ _ (by omega) (by omega) (by omega)⟩ ⟨km _ _ (by omega) (by omega) (by omega), km _ _ (by omega) (by omega) (by omega)⟩
  · exact h7.keep (fun _ q => q) (fun _ q => q) hSI hQI (fun i k q => gR i k (sSQ i q).1) (fun i q => gN i (sSQ i q).2) ⟨gR _ _ (by omega), gR _ _ (by omega)⟩ (fun s _ => kx _ _ (by omega) (by omega) (by omega)) ⟨kx _ _ (by omega) (by omega) (by omega), kx _ _ (by omega) (by omega) (by omega)⟩ (fun k hk => km _ _ (by omega) (by omega) (by omega))
  · exact h8.keep (fun _ q => q) (fun _ q => q) hSI hQI (fun i k q => gR i k (sSQ i q).1) (fun i q => gN i (sSQ i q).2) (fun i k a b => gR i k (by omega)) (fun i k a b => kx _ _ (by omega) (by omega) (by omega)) (kx _ _ (by omega) (by omega) (by omega)) (km _ _ (by omega) (by omega) (by omega)) (fun k a b => km _ _ (by omega) (by omega) (by omega))
  · exact h9.keep ⟨⟨kx _ _ (by omega) (by omega) (by omega), kx _ _ (by omega) (by omega) (by omega)⟩, fun k => ⟨kx _ _ (by omega) (by omega) (by omega), kx _ _ (by omega) (by omega) (by omega)⟩⟩ ⟨⟨km _ _ (by omega) (by omega) (by omega), km _ _ (by omega) (by omega) (by omega)⟩, fun k => ⟨km _ _ (by omega) (by omega) (by omega), km _ _ (by omega) (by omega) (by omega)⟩⟩
  · exact h10.keep ⟨kx _ _ (by omega) (by omega) (by omega), fun k => kx _ _ (by omega) (by omega) (by omega)⟩ ⟨km _ _ (by omega) (by omega) (by omega), fun k => km _ _ (by omega) (by omega) (by omega)⟩
def cut32 (so : Nat) (v : Int64) : Int32 := if so = 0 then Int8.toInt32 (Int32.toInt8 (Int64.toInt32 v)) else if so = 1 then Int16.toInt32 (Int32.toInt16 (Int64.toInt32 v)) else Int64.toInt32 v
def cut64 (so : Nat) (v : Int64) : Int64 := if so = 3 then v else (cut32 so v).toInt64
section TW
variable {g : Sh} {I : MI} {J : MJ} {IM : MI} {JM : MJ} {t so m r : Nat}
theorem m_cut (hs : so ≤ 3) (v : Int64) : f_X7_cut IM JM (nz so) v = some (cut64 so v) := by
  have hs : so = 0 ∨ so = 1 ∨ so = 2 ∨ so = 3 := by omega
  rcases hs with rfl | rfl | rfl | rfl <;> rfl
theorem x_set (h : TF g I J IM JM t so m r) {k : Nat} (hk : k < m) (v : Int64) : f_X5_set g I J (226 + t) (nz k) v = some (if so = 3 then I else u2 I r k (cut32 so v), if so = 3 then u2 J r k v else J) := by
  have h1 := h.s3
  have h2 := h.xso
  have h3 := h.xr
  have h4 := h.k
  have h5 := h.n
  have h7 := h.m60
  have hi : inb (nz k) (sN g r) := by rw [h5, nz_inb (by omega)]; exact hk
  have hn : (nz k).toNatClampNeg = k := nz_tn (by omega)
  have b8 : ∀ x : Int8, x.toInt32.toInt8.toInt32 = x.toInt32 := fun x => by simp
  have b16 : ∀ x : Int16, x.toInt32.toInt16.toInt32 = x.toInt32 := fun x => by simp
  unfold f_X5_set
  have hs : so = 0 ∨ so = 1 ∨ so = 2 ∨ so = 3 := by omega
  rcases hs with rfl | rfl | rfl | rfl
  · refine e_pos h2 (e_nn h3 (e_ck h4 (e_ck hi (e_nm ?_))))
    rw [hn, b8]; rfl
  · refine e_neg (by rw [h2]; decide) (e_pos h2 (e_nn h3 (e_ck h4 (e_ck hi (e_nm ?_)))))
    rw [hn, b16]; rfl
  · refine e_neg (by rw [h2]; decide) (e_neg (by rw [h2]; decide) (e_pos h2 (e_nn h3 (e_ck h4 (e_ck hi (e_nm ?_))))))
    rw [hn]; rfl
  · refine e_neg (by rw [h2]; decide) (e_neg (by rw [h2]; decide) (e_neg (by rw [h2]; decide) (e_nn h3 (e_ck h4 (e_ck hi (e_nm ?_))))))
    rw [hn]; rfl
theorem x_set_b (h : TF g I J IM JM t so m r) {a : Int32} (ha : ¬ inb a m) (v : Int64) : f_X5_set g I J (226 + t) a v = none ∧ fb_X5_set g I J (226 + t) a v = some () := by
  have h1 := h.s3
  have h2 := h.xso
  have h3 := h.xr
  have h4 := h.k
  have h5 := h.n
  have h7 := h.m60
  have hi : ¬ inb a (sN g r) := by rw [h5]; exact ha
  have hj : ¬ inb a (sN g r) ∧ sN g r < 2147483648 := ⟨hi, by omega⟩
  unfold f_X5_set fb_X5_set
  have hs : so = 0 ∨ so = 1 ∨ so = 2 ∨ so = 3 := by omega
  rcases hs with rfl | rfl | rfl | rfl
  · exact ⟨e_pos h2 (e_nn h3 (e_ck h4 (ck_none hi))), e_pos h2 (e_nn h3 (e_ck h4 (e_ck hj rfl)))⟩
  · exact ⟨e_neg (by rw [h2]; decide) (e_pos h2 (e_nn h3 (e_ck h4 (ck_none hi)))), e_neg (by rw [h2]; decide) (e_pos h2 (e_nn h3 (e_ck h4 (e_ck hj rfl))))⟩
  · exact ⟨e_neg (by rw [h2]; decide) (e_neg (by rw [h2]; decide) (e_pos h2 (e_nn h3 (e_ck h4 (ck_none hi))))), e_neg (by rw [h2]; decide) (e_neg (by rw [h2]; decide) (e_pos h2 (e_nn h3 (e_ck h4 (e_ck hj rfl)))))⟩
  · exact ⟨e_neg (by rw [h2]; decide) (e_neg (by rw [h2]; decide) (e_neg (by rw [h2]; decide) (e_nn h3 (e_ck h4 (ck_none hi))))), e_neg (by rw [h2]; decide) (e_neg (by rw [h2]; decide) (e_neg (by rw [h2]; decide) (e_nn h3 (e_ck h4 (e_ck hj rfl)))))⟩
theorem x_set_z {a : Int32} (h1 : I (226 + t) 1 = nz 0) (h2 : sR g (226 + t) 0 = none) (v : Int64) : f_X5_set g I J (226 + t) a v = none ∧ fb_X5_set g I J (226 + t) a v = none ∧ fz_X5_set g I J (226 + t) a v = some () := by
  unfold f_X5_set fb_X5_set fz_X5_set
  exact ⟨e_pos h1 (by rw [h2]; rfl), e_pos h1 (by rw [h2]; rfl), e_pos h1 (e_ck h2 rfl)⟩
end TW
theorem op_4 : OP_4 Inv := by
  intro g IX JX IM JM h a1 a2 a3
  obtain ⟨S, Q, w, B, mk, wk, C, hh⟩ := id h
  have hT := hh.2.2.2.1
  -- a refusal
  have fin : ∀ (st : Int32), f_X0_write g IX JX a1 a2 a3 = some (nz 0, u2 IX 4 8 st, JX) → f_X7_write IM JM a1 a2 a3 = some (nz 0, u2 (u2 IM 0 1 (nz 0)) 0 0 st, JM) → ∃ (r : Int32) (IX2 : MI) (JX2 : MJ) (IM2 : MI) (JM2 : MJ), f_X0_write g IX JX a1 a2 a3 = some (r, IX2, JX2) ∧ f_X7_write IM JM a1 a2 a3 = some (r, IM2, JM2) ∧ Inv g IX2 JX2 IM2 JM2 := fun st e1 e2 =>
    ⟨nz 0, _, _, _, _, e1, e2, h.ro (st := st) (fun Q => roX_st Q IX st) (roXJ_rfl _) (roM_st st) (roMJ_rfl _)⟩
  have no : f_X0_isTray g IX JX a1 = some (nz 0) → (∀ I, f_X7_trayed I JM a1 = some (nz 1)) → ∃ (r : Int32) (IX2 : MI) (JX2 : MJ) (IM2 : MI) (JM2 : MJ), f_X0_write g IX JX a1 a2 a3 = some (r, IX2, JX2) ∧ f_X7_write IM JM a1 a2 a3 = some (r, IM2, JM2) ∧ Inv g IX2 JX2 IM2 JM2 := fun e1 e2 => by
    refine fin (nz 1) ?_ ?_
    · unfold f_X0_write
      exact e_cb e1 (e_pos rfl (e_cb2 (x_isN (k := 1) (by omega)) (e_ck (Or.inl rfl) rfl)))
    · unfold f_X7_write
      exact e_nm (e_cb (m_placed_1 (e2 _)) (e_nm (e_neg (by rw [u2_hit ⟨rfl, rfl⟩]; decide) rfl)))
  rcases nz_cases a1 with n1 | ⟨t, ht, rfl⟩
  · exact no (x_tray_n n1) (fun I => m_trayed_n n1)
  by_cases q : t < 4
  · have e1 := x_tray_t (g := g) (I := IX) (J := JX) q
    have hi : inb (nz t) 4 := by rw [nz_inb ht]; exact q
    have hn : (nz t).toNatClampNeg = t := nz_tn ht
    rcases tr_of hT q with ⟨m1, m2, x1, x2⟩ | ⟨so, m, r, F, d, f⟩
    · obtain ⟨z1, z2, z3⟩ := x_set_z (g := g) (I := IX) (J := JX) (t := t) (a := a2) x1 x2 a3
      refine fin (nz 3) ?_ ?_
      · unfold f_X0_write
        refine e_cb e1 (e_neg (by decide) (e_ck hi ?_))
        rw [hn]
        exact e_jt3 z1 z2 z3 (e_cb2 (x_isN (k := 3) (by omega)) (e_ck (Or.inl rfl) rfl))
      · unfold f_X7_write
        exact e_nm (e_cb (m_placed_3 q (by rw [u2_mis (by omega)]; exact m1)) (e_nm (e_neg (by rw [u2_hit ⟨rfl, rfl⟩]; decide) rfl)))
    · have F' : TF g IX JX (u2 IM 0 1 (nz 0)) JM t so m r := F.keep (fun k => rfl) (fun k => rfl) ⟨u2_mis (by omega), u2_mis (by omega)⟩
      have hs3 := F.s3
      by_cases y : inb a2 m
      · rcases nz_cases a2 with n2 | ⟨k, hk, rfl⟩
        · exact absurd (Or.inl n2) y
        · rw [nz_inb hk] at y
          have hm := F.m60
          have eq : (60 : Int32) * nz t + nz k = nz (60 * t + k) := by simp (disch := omega) only [nz_lit, lz_lit, nz_ofNat, neg_nz1, neg_lz1, nz_0_sub_1, nz_add, nz_mul, nz_sub, nz_lt, nz_le, nz_eq, nz_tn, nz_inb, nz_rem, nz_div, nz_min, nz_max, nz_l, mz_l, lz_i, mz_lt_nz, mz_le_nz, nz_lt_mz, nz_le_mz, nz_eq_mz, mz_eq_nz, nz_add_mz, mz_add_nz, lz_add, lz_mul, lz_sub, lz_lt, lz_le, lz_eq, lz_min, lz_max, lz_rem, lz_div, ml_lt_lz, lz_lt_ml, ml_le_lz, lz_le_ml, lz_eq_ml, ml_eq_lz, lg_lt', lg_le', lg_gt', lg_ge', lg_eq', u2_hit, u2_mis, if_true, if_false, eq_self, and_true, true_and, and_false, false_and, or_true, true_or, or_false, false_or, not_true_eq_false, not_false_eq_true, oz_0, oz_s, bo_0, bo_1, bo_01, bo_bo, Bool.false_eq_true, Bool.true_eq_false, Nat.reduceEqDiff, Nat.reduceAdd, Nat.reduceMul, Nat.reduceSub, Nat.zero_add, Nat.add_zero, Nat.sub_zero]
          have hc := m_cut (IM := u2 (u2 IM 0 1 (nz 0)) 0 0 (nz 0)) (JM := JM) hs3 a3
          refine ⟨nz 1, u2 (if so = 3 then IX else u2 IX r k (cut32 so a3)) 4 8 (nz 0), (if so = 3 then u2 JX r k a3 else JX), u2 (u2 IM 0 1 (nz 0)) 0 0 (nz 0), u2 JM 3 (60 * t + k) (cut64 so a3), ?_, ?_, ?_⟩
          · unfold f_X0_write
            refine e_cb e1 (e_neg (by decide) (e_ck hi ?_))
            rw [hn]
            exact e_jt1 (x_set F' y a3) (e_cb2 x_is0 (e_ck (Or.inr rfl) rfl))
          · unfold f_X7_write
            refine e_nm (e_cb (m_placed_0 q hm F'.mm y) (e_nm (e_pos (by rw [u2_hit ⟨rfl, rfl⟩]; decide) (e_ck hi ?_))))
            rw [hn, show u2 (u2 IM 0 1 (0 : Int32)) 0 0 (nz 0) 1 t = nz so by rw [u2_mis (by omega)]; exact F'.mso]
            refine e_cb hc ?_
            rw [eq]
            refine e_ck (by rw [nz_inb (by omega)]; omega) (e_nm ?_)
            rw [nz_tn (by omega)]
            rfl
          · have kx : ∀ i k', ¬ (i = r ∧ k' = k) → ¬ (i = 4 ∧ k' = 8) → u2 (if so = 3 then IX else u2 IX r k (cut32 so a3)) 4 8 (nz 0) i k' = IX i k' := fun i k' b c => by
              rw [u2_mis c]
              split
              · rfl
              · rw [u2_mis b]
            have kxj : ∀ i k', ¬ (i = r ∧ k' = k) → (if so = 3 then u2 JX r k a3 else JX) i k' = JX i k' := fun i k' b => by
              split
              · rw [u2_mis b]
              · rfl
            have km : ∀ a b, ¬ (a = 0 ∧ (b = 0 ∨ b = 1)) → u2 (u2 IM 0 1 (nz 0)) 0 0 (nz 0) a b = IM a b := fun a b c => by rw [u2_mis (by omega), u2_mis (by omega)]
            refine Inv.tray hh (r := r) ⟨d.1, d.2.2.1, d.2.2.2⟩ (by rw [u2_hit ⟨rfl, rfl⟩, u2_hit ⟨rfl, rfl⟩]) (fun i k' a b _ => kx i k' (fun e => a e.1) b) (fun i k' a => kxj i k' (fun e => a e.1)) (fun a b _ _ c => km a b c) (fun a b c => u2_mis (by omega)) ?_ (Nat.le_refl _) (fun _ _ _ => rfl) (fun _ _ => rfl)
            intro t' ht'
            rcases tr_of hT ht' with ⟨m1, m2, x1, x2⟩ | ⟨so', m', r', F2, d', f'⟩
            · exact Or.inl ⟨by rw [km _ _ (by omega)]; exact m1, by rw [km _ _ (by omega)]; exact m2, by rw [kx _ _ (by omega) (by omega)]; exact x1, x2⟩
            · refine Or.inr ⟨so', m', r', ⟨F2.s3, F2.m60⟩, ⟨by rw [km _ _ (by omega)]; exact F2.mso, by rw [km _ _ (by omega)]; exact F2.mm, by rw [kx _ _ (by omega) (by omega)]; exact F2.xso⟩, F2.xr, d', ⟨F2.k, F2.n⟩, f', fun k' hk' => ?_⟩
              have m6 := F2.m60
              have hv := F2.v k' hk'
              by_cases z : t' = t ∧ k' = k
              · obtain ⟨rfl, rfl⟩ := z
                have hr : r' = r := by
                  have := F2.xr.symm.trans F.xr
                  exact Option.some.inj this
                have hso : so' = so := by
                  have h9 := F2.mso.symm.trans F.mso
                  have h8 := F2.s3
                  rw [nz_eq (by omega)] at h9
                  exact h9
                rw [hr, hso, u2_hit ⟨rfl, rfl⟩]
                unfold cut64
                by_cases s : so = 3
                · rw [if_pos s, if_pos s, if_pos s, u2_hit ⟨rfl, rfl⟩]
                · rw [if_neg s, if_neg s, if_neg s, u2_mis (by omega), u2_hit ⟨rfl, rfl⟩]
              · have hne : ¬ (r' = r ∧ k' = k) := fun e => by
                  refine z ⟨f t' ht' (by rw [← e.1]; exact F2.xr), e.2⟩
                rw [u2_mis (by omega), kx _ _ hne (by omega), kxj _ _ hne]
                exact hv
      · obtain ⟨z1, z2⟩ := x_set_b F' y a3
        refine fin (nz 4) ?_ ?_
        · unfold f_X0_write
          refine e_cb e1 (e_neg (by decide) (e_ck hi ?_))
          rw [hn]
          exact e_jt2 z1 z2 (e_cb2 (x_isN (k := 4) (by omega)) (e_ck (Or.inl rfl) rfl))
        · unfold f_X7_write
          exact e_nm (e_cb (m_placed_4 q F.m60 F'.mm y) (e_nm (e_neg (by rw [u2_hit ⟨rfl, rfl⟩]; decide) rfl)))
  · exact no (x_tray_f q ht) (fun I => m_trayed_f q ht)
