/-! PURE 7: the Model's constructor -/
set_option maxRecDepth 100000
theorem hp_sa_fl {S : hp_St} {n k a : Nat} {v : Int32} (h : a ≠ n) : hp_sa S (st_fl S n k v) a := ⟨rfl, rfl, by funext j; simp [st_fl, st_I, h], rfl, rfl⟩
theorem hp_sa_kp {S : hp_St} {n a : Nat} (h : ¬ (78 ≤ a ∧ a ≤ 85)) : hp_sa S (st_kp S n) a := ⟨rfl, rfl, by funext j; simp [st_kp_e, h], rfl, rfl⟩
theorem hp_sa_kn {S : hp_St} {n a : Nat} (h : a ≠ 86) : hp_sa S (st_kn S n) a := ⟨rfl, rfl, by funext j; simp [st_kn_e, h], rfl, rfl⟩
theorem st_d_low : ∀ a, a < 61 → hp_sa st_c st_d a := by
  intro a ha
  have hz : ∀ {T : hp_St}, st_Z T ≥ 61 → a ≠ st_Z T := fun h => by omega
  unfold st_d
  repeat (first
    | exact hp_sa.rf
    | (refine hp_sa.tr ?_ (hp_sa_pR (by omega)))
    | (refine hp_sa.tr ?_ (hp_sa_pI (by omega)))
    | (refine hp_sa.tr ?_ (hp_sa_nA (hz (by decide +kernel)))))
theorem st_d_ints : (∀ j, j < 500 → st_I st_d 62 j = 0) ∧ (∀ j, j < 75 → st_I st_d 77 j = m_words.getD j 0) ∧ st_I st_d 61 1 = 0 ∧ st_I st_d 61 3 = 0 ∧ st_I st_d 61 4 = 0 ∧ st_I st_d 61 7 = 0 ∧ st_I st_d 61 14 = 0 ∧ st_I st_d 61 16 = 0 ∧ st_I st_d 61 23 = 0 ∧ st_I st_d 61 24 = -1 ∧ st_I st_d 61 52 = 0 := by
  refine ⟨?_, ?_, ?_⟩
  · decide +kernel
  · decide +kernel
  · and_intros <;> decide +kernel
theorem init_X7 {Q : hp_St → Prop} (k : ∀ S', MI S' M0 → (∀ a, a < 61 → hp_sa st_c S' a) → st_Z S' = 98 → Q S') : wp_X7_init 61 st_c Q := by
  refine init_X7a ?_
  have hR : st_R st_d 61 21 = 76 ∧ st_C st_d 76 = 50 ∧ st_L st_d 76 = 40 := by and_intros <;> decide +kernel
  refine ⟨fun v S' => ∃ n, n ≤ 40 ∧ v = nI n ∧ S' = st_fl st_d 76 n 900, fun v _ => 40 - v.toNatClampNeg, ⟨0, by decide, rfl, st_fl_0.symm⟩, ?_⟩
  rintro v S1 - ⟨n, hn, rfl, rfl⟩
  unfold wb_X7_init_745
  refine ⟨fun hb => ?_, fun hb => ?_⟩
  · have hn2 : n < 40 := (nI_ltI (by omega) (by decide)).mp hb
    show (st_C st_d (st_R st_d 61 21) = 50) ∧ (vp_in (nI n) (st_L st_d (st_R st_d 61 21))) ∧ _
    rw [hR.1]
    refine ⟨hR.2.1, by rw [hR.2.2]; exact vp_in_nI hn2 (by decide), fun S2 e2 => ⟨⟨n + 1, hn2, nI_1 n, ?_⟩, hp_mlt hn2 (by decide)⟩⟩
    rw [e2, nI_clamp (by omega)]
    show st_pI (st_fl st_d 76 n 900) (st_R st_d 61 21) n 900 = _
    rw [hR.1, st_fl_s]
  · have hn2 : ¬ n < 40 := fun h => hb ((nI_ltI (by omega) (by decide)).mpr h)
    have hn4 : n = 40 := by omega
    subst hn4
    have hM : MSH (st_fl st_d 76 40 900) := MSH_d.kept ⟨Nat.le_refl _, fun _ _ => ⟨rfl, rfl⟩⟩ rfl
    refine sp_plain hM (fun S2 hp _ => ?_)
    obtain ⟨p1, p2, p3, p4, p5, p6, p7, p8, p9, p10⟩ := hp
    refine sp_keep (N := 0) p1 p5 (by decide) (fun _ => ?_)
    have hsa : ∀ a, a ≠ 61 → a ≠ 76 → a ≠ 86 → a ≠ 87 → ¬ (78 ≤ a ∧ a ≤ 85) → hp_sa st_d (st_kp (st_pI (st_kn S2 4) 61 38 (nI 0)) 0) a := fun a h1 h2 h3 h4 h5 => (((hp_sa_fl h2).tr (p3 a h1 h3 h4)).tr (hp_sa_kn h3)).tr ((hp_sa_pI h1).tr (hp_sa_kp h5))
    obtain ⟨i1, i2, i3, i4, i5, i6, i7, i8, i9, i10, i11⟩ := st_d_ints
    have h61 : ∀ j, j ≠ 38 → j ≠ 39 → st_I (st_kp (st_pI (st_kn S2 4) 61 38 (nI 0)) 0) 61 j = st_I st_d 61 j := fun j h1 h2 => by
      simp only [st_kp_e, st_pI_e, st_kn_e]
      simp [h1, p4 j h2]
      rfl
    refine k _ ⟨?_, fun j hj => ?_, ?_, ?_, ?_, fun j x hx => by cases hx, ?_, fun j x hx => by cases hx, ?_, fun j x hx => by cases hx, ?_, fun j x hx => by cases hx, fun j hj => ?_, fun j hj => ?_, ?_, ?_, ?_, fun j x hx => by cases hx, fun j hj => ?_, ?_, fun f hf => by cases hf⟩ (fun a ha => (st_d_low a ha).tr (hsa a (by omega) (by omega) (by omega) (by omega) (by omega))) ?_
    · exact p1.kept ⟨Nat.le_refl _, fun _ _ => ⟨rfl, rfl⟩⟩ rfl
    · rw [(hsa 62 (by decide) (by decide) (by decide) (by decide) (by decide)).2.2.1, i1 j hj]; rfl
    · rw [h61 1 (by decide) (by decide), i3]; rfl
    · rw [h61 3 (by decide) (by decide), i4]; rfl
    · rw [h61 4 (by decide) (by decide), i5]; rfl
    · rw [h61 7 (by decide) (by decide), i6]; rfl
    · rw [h61 14 (by decide) (by decide), i7]; rfl
    · rw [h61 16 (by decide) (by decide), i8]; rfl
    · have e := ((p3 76 (by decide) (by decide) (by decide)).tr (hp_sa_kn (by decide))).tr ((hp_sa_pI (by decide)).tr (hp_sa_kp (n := 0) (by decide)))
      rw [e.2.2.1]
      show (if 76 = 76 ∧ j < 40 then (900 : Int32) else _) = nI 900
      rw [if_pos ⟨rfl, hj⟩]
      rfl
    · rw [(hsa 77 (by decide) (by decide) (by decide) (by decide) (by decide)).2.2.1, i2 j hj]
    · rw [h61 23 (by decide) (by decide), i9]; rfl
    · rw [h61 24 (by decide) (by decide), i10]; rfl
    · simp [st_kp_e, st_pI_e]; rfl
    · have e := p7 j hj
      simp only [st_kp_e, st_pI_e, st_kn_e]
      simp [hj, e]
    · rw [h61 52 (by decide) (by decide), i11]; rfl
    · show st_Z S2 = 98
      rw [p2]
      rfl
