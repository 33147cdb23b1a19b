set_option maxRecDepth 100000
/-! mark and back -/
theorem Inv.blk {g g' : Sh} {IX IX' : MI} {JX : MJ} {IM IM' : MI} {JM : MJ} {S Q : Nat → Prop} {w w' : Nat} {B B' : Nat → Nat} {mk mk' : Nat} {wk wk' : Nat → Nat} {C C' : Nat → Nat → Nat} (hh : InvC g IX JX IM JM S Q w B mk wk C) (hst : IX' 4 8 = IM' 0 0) (kx : ∀ i k, i ≠ 10 → ¬ (230 ≤ i ∧ i ≤ 235) → ¬ (i = 4 ∧ (k = 6 ∨ k = 7 ∨ k = 8 ∨ k = 38)) → IX' i k = IX i k) (km : ∀ a b, a ≠ 5 → ¬ (a = 0 ∧ (b = 0 ∨ b = 1 ∨ b = 23)) → IM' a b = IM a b) (gX : sX g' = sX g) (gR : ∀ i k, ¬ (i = 4 ∧ (k = 4 ∨ k = 5)) → ¬ (230 ≤ i ∧ i ≤ 235 ∧ (k = 1 ∨ k = 2)) → sR g' i k = sR g i k) (gN : ∀ i, sN g' i = sN g i) (gK : ∀ i, sK g' i = sK g i) (hC : cCur g' IX' IM' S Q w' B') (hM : cMk g' IX' IM' S Q mk' wk' C') : Inv g' IX' JX IM' JM := by
  obtain ⟨h1, h2, h3, h4, h5, h6, h7, h8, h9, h10⟩ := hh
  obtain ⟨s1, s2, s3, s4⟩ := h1
  refine ⟨S, Q, w', B', mk', wk', C', ⟨by omega, fun i q => ⟨(s2 i q).1, by have := (s2 i q).2.1; omega, (s2 i q).2.2⟩, fun i q => ⟨(s3 i q).1, by have := (s3 i q).2; omega⟩, fun j hj => ⟨by rw [gR _ _ (by omega) (by omega)]; exact (s4 j hj).1, by rw [gN]; exact (s4 j hj).2⟩⟩, hst, ?_, ?_, ?_, ?_, hC, hM, ?_, ?_⟩
  · exact h3.keep ⟨rfl, rfl⟩ ⟨rfl, rfl⟩
  · exact h4.keep (fun _ _ q => q) (fun _ _ q => q) (by omega) (fun t ht => gR _ _ (by omega) (by omega)) (fun r _ _ _ _ => ⟨gK r, gN r⟩) (fun t ht => kx _ _ (by omega) (by omega) (by omega)) (fun r k a1 a2 a3 a4 => ⟨kx _ _ (by omega) (by omega) (by omega), rfl⟩) (fun t ht => ⟨km _ _ (by omega) (by omega), km _ _ (by omega) (by omega)⟩) (fun k => rfl)
  · exact h5.keep ⟨kx _ _ (by omega) (by omega) (by omega), fun k => kx _ _ (by omega) (by omega) (by omega)⟩ ⟨km _ _ (by omega) (by omega), fun k => km _ _ (by omega) (by omega)⟩
  · exact h6.keep ⟨kx _ _ (by omega) (by omega) (by omega), kx _ _ (by omega) (by omega) (by omega)⟩ ⟨km _ _ (by omega) (by omega), km _ _ (by omega) (by omega)⟩
  · exact h9.keep ⟨⟨kx _ _ (by omega) (by omega) (by omega), kx _ _ (by omega) (by omega) (by omega)⟩, fun k => ⟨kx _ _ (by omega) (by omega) (by omega), kx _ _ (by omega) (by omega) (by omega)⟩⟩ ⟨⟨km _ _ (by omega) (by omega), km _ _ (by omega) (by omega)⟩, fun k => ⟨km _ _ (by omega) (by omega), km _ _ (by omega) (by omega)⟩⟩
  · exact h10.keep ⟨kx _ _ (by omega) (by omega) (by omega), fun k => kx _ _ (by omega) (by omega) (by omega)⟩ ⟨km _ _ (by omega) (by omega), fun k => km _ _ (by omega) (by omega)⟩
/-- a side's block at another place -/
theorem BX.move {g g' : Sh} {I I' : MI} {S Q : Nat → Prop} {w : Nat} {so so' : Option Nat} {n n' h h' : Int32} {na na' : Nat} {B : Nat → Nat} (hb : BX g I S Q w so n h na B) (es : so' = so) (en : n' = n) (eh : h' = h) (hI : ∀ i k, S i ∨ Q i → I' i k = I i k) (hR : ∀ i k, S i ∨ Q i → sR g' i k = sR g i k) (hN : ∀ i, sN g' i = sN g i) (hna : ∀ s, s < 96 → I' na' s = I na s) : BX g' I' S Q w so' n' h' na' B := by
  subst es; subst en; subst eh
  exact ⟨hb.1.keep (fun i k q => hI i k (Or.inl q)) (fun i k q => hR i k (Or.inl q)) (fun i _ => hN i), fun s hs => by rw [hna s hs]; exact hb.2.1 s hs, hb.2.2.1, hb.2.2.2.keep (fun i k q _ => hI i k (Or.inr q)) (fun i k q => hR i k (Or.inr q)) (fun i _ => hN i) (fun _ _ _ => rfl)⟩
