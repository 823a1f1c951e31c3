/-! PURE 5: plain and keep -/
set_option maxRecDepth 100000
/-- what the Model has for Acts read anew -/
def mPl (S S' : hp_St) : Prop := MSH S' ∧ st_Z S' = st_Z S ∧ (∀ a, a ≠ 61 → a ≠ 86 → a ≠ 87 → hp_sa S S' a) ∧ (∀ k, k ≠ 39 → st_I S' 61 k = st_I S 61 k) ∧ st_I S' 61 39 = 0 ∧ (∀ k, k < 4 → st_I S' 86 k = st_I S 86 k) ∧ (∀ k, k < 4 → st_I S' 86 (4 + k) = nI (M0.num k)) ∧ (∀ k, k < 4 → st_I S' 87 k = 0) ∧ st_R S' 61 = st_R S 61 ∧ st_J S' 61 = st_J S 61
theorem sp_plain {S : hp_St} {Q : hp_St → Prop} (h : MSH S) (k : ∀ S', mPl S S' → Q S') : wp_X7_plain 61 S Q := by
  have hR : st_R S 61 40 = 86 ∧ st_R S 61 41 = 87 ∧ st_C S 86 = 50 ∧ st_L S 86 = 8 ∧ st_C S 87 = 51 ∧ st_L S 87 = 4 := by
    unfold MSH at h
    simp only [h, and_self]
  obtain ⟨r1, r2, c1, l1, c2, l2⟩ := hR
  unfold wp_X7_plain
  simp only [st_pI_e, r1, r2, c1, l1]
  refine ⟨trivial, by unfold vp_in; decide +kernel, fun S1 e1 => ?_⟩
  have c1' : st_C S1 = st_C S ∧ st_L S1 = st_L S ∧ st_R S1 = st_R S := by rw [e1]; exact ⟨rfl, rfl, rfl⟩
  simp only [c1', st_pI_e, r1, r2, c1, l1]
  refine ⟨trivial, by unfold vp_in; decide +kernel, fun S2 e2 => ?_⟩
  have c2' : st_C S2 = st_C S ∧ st_L S2 = st_L S ∧ st_R S2 = st_R S := by rw [e2]; exact c1'
  simp only [c2', st_pI_e, r1, r2, c1, l1]
  refine ⟨trivial, by unfold vp_in; decide +kernel, fun S3 e3 => ?_⟩
  have c3' : st_C S3 = st_C S ∧ st_L S3 = st_L S ∧ st_R S3 = st_R S := by rw [e3]; exact c2'
  simp only [c3', st_pI_e, r1, r2, c1, l1]
  refine ⟨trivial, by unfold vp_in; decide +kernel, fun S4 e4 => ?_⟩
  have c4' : st_C S4 = st_C S ∧ st_L S4 = st_L S ∧ st_R S4 = st_R S := by rw [e4]; exact c3'
  refine ⟨fun v S' => ∃ n, n ≤ 4 ∧ v = nI n ∧ S' = st_fl S4 87 n 0, fun v _ => 4 - v.toNatClampNeg, ⟨0, by decide, rfl, st_fl_0.symm⟩, ?_⟩
  rintro v S5 - ⟨n, hn, rfl, rfl⟩
  have c5 : st_C (st_fl S4 87 n 0) = st_C S ∧ st_L (st_fl S4 87 n 0) = st_L S ∧ st_R (st_fl S4 87 n 0) = st_R S := c4'
  unfold wb_X7_plain_33
  rw [c5.1, c5.2.1, c5.2.2, r2]
  refine ⟨fun hb => ?_, fun hb => ?_⟩
  · have hn2 : n < 4 := (nI_ltI (by omega) (by decide)).mp hb
    refine ⟨c2, by rw [l2]; exact vp_in_nI hn2 (by decide), fun S6 e6 => ⟨⟨n + 1, hn2, nI_1 n, by rw [e6, nI_clamp (by omega), st_fl_s]⟩, hp_mlt hn2 (by decide)⟩⟩
  · have hn2 : ¬ n < 4 := fun h => hb ((nI_ltI (by omega) (by decide)).mpr h)
    have hn4 : n = 4 := by omega
    subst hn4
    intro S6 e6
    have eI : ∀ a j, st_I S6 a j = if a = 61 ∧ j = 39 then 0 else if a = 87 ∧ j < 4 then 0 else if a = 86 ∧ j = 7 then 3 else if a = 86 ∧ j = 6 then 20 else if a = 86 ∧ j = 5 then 0 else if a = 86 ∧ j = 4 then 4 else st_I S a j := by
      intro a j
      rw [e6, e4, e3, e2, e1]
      rfl
    have eR : st_R S6 = st_R S := by rw [e6]; exact c4'.2.2
    refine k S6 ⟨h.kept ⟨by rw [e6, e4, e3, e2, e1]; exact Nat.le_refl _, fun a _ => ⟨by rw [e6]; exact congrFun c4'.1 a, by rw [e6]; exact congrFun c4'.2.1 a⟩⟩ (by rw [eR]), by rw [e6, e4, e3, e2, e1]; rfl, fun a h1 h2 h3 => ⟨by rw [e6]; exact congrFun c4'.1 a, by rw [e6]; exact congrFun c4'.2.1 a, by funext j; rw [eI]; simp [h1, h2, h3], by rw [eR], by rw [e6, e4, e3, e2, e1]; rfl⟩, fun k hk => by rw [eI]; simp [hk], by rw [eI]; simp, fun k hk => ?_, fun k hk => ?_, fun k hk => by rw [eI]; simp [hk], by rw [eR], by rw [e6, e4, e3, e2, e1]; rfl⟩
    · rw [eI]
      simp [show k ≠ 7 by omega, show k ≠ 6 by omega, show k ≠ 5 by omega, show k ≠ 4 by omega]
    · rw [eI]
      rcases (by omega : k = 0 ∨ k = 1 ∨ k = 2 ∨ k = 3) with rfl | rfl | rfl | rfl <;> rfl
