/-! PURE 6: keep -/
set_option maxRecDepth 100000
/-- the first n rows are those that were read -/
def st_kp (S : hp_St) (n : Nat) : hp_St := (st_Z S, st_C S, st_L S, (fun q j => if (78 ≤ q ∧ q ≤ 85) ∧ j < n then st_I S q (24 + j) else st_I S q j), st_R S, st_J S)
theorem st_kp_0 {S : hp_St} : st_kp S 0 = S := by
  unfold st_kp
  simp
  rfl
theorem st_kp_e {S : hp_St} {n : Nat} : st_Z (st_kp S n) = st_Z S ∧ st_C (st_kp S n) = st_C S ∧ st_L (st_kp S n) = st_L S ∧ st_R (st_kp S n) = st_R S ∧ st_J (st_kp S n) = st_J S ∧ ∀ q j, st_I (st_kp S n) q j = if (78 ≤ q ∧ q ≤ 85) ∧ j < n then st_I S q (24 + j) else st_I S q j := ⟨rfl, rfl, rfl, rfl, rfl, fun _ _ => rfl⟩
/-- one row more, array by array -/
theorem st_kp_s {S T : hp_St} {n : Nat} (hn : n < 24) (hT : T = (let F := fun (U : hp_St) (a : Nat) => st_pI U a n (st_I U a (24 + n)); F (F (F (F (F (F (F (F (st_kp S n) 78) 79) 80) 81) 82) 83) 84) 85)) : T = st_kp S (n + 1) := by
  subst hT
  have key : ∀ q j, st_I (let F := fun (U : hp_St) (a : Nat) => st_pI U a n (st_I U a (24 + n)); F (F (F (F (F (F (F (F (st_kp S n) 78) 79) 80) 81) 82) 83) 84) 85) q j = st_I (st_kp S (n + 1)) q j := by
    intro q j
    simp only [st_pI_e, st_kp_e]
    have h24 : ¬ 24 + n = n := by omega
    have h25 : ¬ 24 + n < n := by omega
    simp only [h24, h25, and_false, if_false]
    by_cases hq : 78 ≤ q ∧ q ≤ 85
    · have h8 : q = 78 ∨ q = 79 ∨ q = 80 ∨ q = 81 ∨ q = 82 ∨ q = 83 ∨ q = 84 ∨ q = 85 := by omega
      by_cases hj : j = n
      · subst hj
        rcases h8 with rfl | rfl | rfl | rfl | rfl | rfl | rfl | rfl <;> simp
      · by_cases hj2 : j < n
        · simp [hj, hj2, hq, show j < n + 1 by omega]
        · simp [hj, hj2, show ¬ j < n + 1 by omega]
    · have h8 : ¬ q = 78 ∧ ¬ q = 79 ∧ ¬ q = 80 ∧ ¬ q = 81 ∧ ¬ q = 82 ∧ ¬ q = 83 ∧ ¬ q = 84 ∧ ¬ q = 85 := by omega
      simp [h8, hq]
  have hI : st_I (let F := fun (U : hp_St) (a : Nat) => st_pI U a n (st_I U a (24 + n)); F (F (F (F (F (F (F (F (st_kp S n) 78) 79) 80) 81) 82) 83) 84) 85) = st_I (st_kp S (n + 1)) := by
    funext q j
    exact key q j
  show (st_Z S, st_C S, st_L S, st_I (let F := fun (U : hp_St) (a : Nat) => st_pI U a n (st_I U a (24 + n)); F (F (F (F (F (F (F (F (st_kp S n) 78) 79) 80) 81) 82) 83) 84) 85), st_R S, st_J S) = _
  rw [hI]
  rfl
theorem sp_keep_37 {S : hp_St} {N : Nat} {Q : hp_St → Prop} (h : MSH S) (hN : st_I S 61 38 = nI N) (hN2 : N ≤ 24) (k : Q (st_kp S N)) : wl_X7_keep_37 61 0 S Q := by
  have hR : st_R S 61 30 = 78 ∧ st_C S 78 = 50 ∧ st_L S 78 = 48 ∧ st_R S 61 31 = 79 ∧ st_C S 79 = 50 ∧ st_L S 79 = 48 ∧ st_R S 61 32 = 80 ∧ st_C S 80 = 50 ∧ st_L S 80 = 48 ∧ st_R S 61 33 = 81 ∧ st_C S 81 = 50 ∧ st_L S 81 = 48 ∧ st_R S 61 34 = 82 ∧ st_C S 82 = 50 ∧ st_L S 82 = 48 ∧ st_R S 61 35 = 83 ∧ st_C S 83 = 50 ∧ st_L S 83 = 48 ∧ st_R S 61 36 = 84 ∧ st_C S 84 = 50 ∧ st_L S 84 = 48 ∧ st_R S 61 37 = 85 ∧ st_C S 85 = 50 ∧ st_L S 85 = 48 := by
    unfold MSH at h
    simp only [h, and_self]
  refine ⟨fun v S' => ∃ n, n ≤ N ∧ v = nI n ∧ S' = st_kp S n, fun v _ => N - v.toNatClampNeg, ⟨0, Nat.zero_le _, rfl, st_kp_0.symm⟩, ?_⟩
  rintro v S1 - ⟨n, hn, rfl, rfl⟩
  unfold wb_X7_keep_37
  have e38 : st_I (st_kp S n) 61 38 = nI N := by simp [st_kp_e, hN]
  refine ⟨fun hb => ?_, fun hb => ?_⟩
  · rw [e38] at hb
    have hn2 : n < N := (nI_ltI (by omega) (by omega)).mp hb
    have e24 : (24 : Int32) + nI n = nI (24 + n) := nI_add 24 n
    have c1 : (nI n).toNatClampNeg = n := nI_clamp (by omega)
    have c2 : (nI (24 + n)).toNatClampNeg = 24 + n := nI_clamp (by omega)
    have v1 : vp_in (nI n) 48 := vp_in_nI (by omega) (by decide)
    have v2 : vp_in (nI (24 + n)) 48 := vp_in_nI (by omega) (by decide)
    rw [e24]
    simp only [st_kp_e, hR, c1, c2]
    refine ⟨trivial, v2, v1, ?_⟩
    intro T1 e1
    have q1 : st_C T1 = st_C S ∧ st_L T1 = st_L S ∧ st_R T1 = st_R S := by rw [e1]; exact ⟨rfl, rfl, rfl⟩
    simp only [q1, hR]
    refine ⟨trivial, v2, v1, ?_⟩
    intro T2 e2
    have q2 : st_C T2 = st_C S ∧ st_L T2 = st_L S ∧ st_R T2 = st_R S := by rw [e2]; exact q1
    simp only [q2, hR]
    refine ⟨trivial, v2, v1, ?_⟩
    intro T3 e3
    have q3 : st_C T3 = st_C S ∧ st_L T3 = st_L S ∧ st_R T3 = st_R S := by rw [e3]; exact q2
    simp only [q3, hR]
    refine ⟨trivial, v2, v1, ?_⟩
    intro T4 e4
    have q4 : st_C T4 = st_C S ∧ st_L T4 = st_L S ∧ st_R T4 = st_R S := by rw [e4]; exact q3
    simp only [q4, hR]
    refine ⟨trivial, v2, v1, ?_⟩
    intro T5 e5
    have q5 : st_C T5 = st_C S ∧ st_L T5 = st_L S ∧ st_R T5 = st_R S := by rw [e5]; exact q4
    simp only [q5, hR]
    refine ⟨trivial, v2, v1, ?_⟩
    intro T6 e6
    have q6 : st_C T6 = st_C S ∧ st_L T6 = st_L S ∧ st_R T6 = st_R S := by rw [e6]; exact q5
    simp only [q6, hR]
    refine ⟨trivial, v2, v1, ?_⟩
    intro T7 e7
    have q7 : st_C T7 = st_C S ∧ st_L T7 = st_L S ∧ st_R T7 = st_R S := by rw [e7]; exact q6
    simp only [q7, hR]
    refine ⟨trivial, v2, v1, ?_⟩
    intro T8 e8
    have q8 : st_C T8 = st_C S ∧ st_L T8 = st_L S ∧ st_R T8 = st_R S := by rw [e8]; exact q7
    refine ⟨⟨n + 1, hn2, nI_1 n, ?_⟩, (by have h9 := hp_mlt (n := n) (N := N) hn2 (by omega); rw [c1] at h9; exact h9)⟩
    refine st_kp_s (by omega) ?_
    rw [e8, e7, e6, e5, e4, e3, e2, e1]
    rfl
  · rw [e38] at hb
    have hn2 : ¬ n < N := fun h => hb ((nI_ltI (by omega) (by omega)).mpr h)
    have : n = N := by omega
    subst this
    exact k
/-- the first four numbers are the last four -/
def st_kn (S : hp_St) (n : Nat) : hp_St := (st_Z S, st_C S, st_L S, (fun q j => if q = 86 ∧ j < n then st_I S 86 (4 + j) else st_I S q j), st_R S, st_J S)
theorem st_kn_e {S : hp_St} {n : Nat} : st_Z (st_kn S n) = st_Z S ∧ st_C (st_kn S n) = st_C S ∧ st_L (st_kn S n) = st_L S ∧ st_R (st_kn S n) = st_R S ∧ st_J (st_kn S n) = st_J S ∧ ∀ q j, st_I (st_kn S n) q j = if q = 86 ∧ j < n then st_I S 86 (4 + j) else st_I S q j := ⟨rfl, rfl, rfl, rfl, rfl, fun _ _ => rfl⟩
theorem st_kn_0 {S : hp_St} : st_kn S 0 = S := by
  unfold st_kn
  simp
  rfl
theorem st_kn_s {S : hp_St} {n : Nat} (hn : n < 4) : st_pI (st_kn S n) 86 n (st_I (st_kn S n) 86 (4 + n)) = st_kn S (n + 1) := by
  have hI : st_I (st_pI (st_kn S n) 86 n (st_I (st_kn S n) 86 (4 + n))) = st_I (st_kn S (n + 1)) := by
    funext q j
    simp only [st_pI_e, st_kn_e]
    by_cases hq : q = 86
    · by_cases hj : j = n
      · simp [hq, hj, show ¬ 4 + n < n by omega]
      · by_cases hj2 : j < n
        · simp [hq, hj, hj2, show j < n + 1 by omega]
        · simp [hq, hj, hj2, show ¬ j < n + 1 by omega]
    · simp [hq]
  show (st_Z S, st_C S, st_L S, st_I (st_pI (st_kn S n) 86 n (st_I (st_kn S n) 86 (4 + n))), st_R S, st_J S) = _
  rw [hI]
  rfl
theorem sp_keep {S : hp_St} {N : Nat} {Q : hp_St → Prop} (h : MSH S) (hN : st_I S 61 39 = nI N) (hN2 : N ≤ 24) (k : Q (st_kp (st_pI (st_kn S 4) 61 38 (nI N)) N)) : wp_X7_keep 61 S Q := by
  have hR : st_R S 61 40 = 86 ∧ st_C S 86 = 50 ∧ st_L S 86 = 8 := by
    unfold MSH at h
    simp only [h, and_self]
  unfold wp_X7_keep
  refine ⟨fun v S' => ∃ n, n ≤ 4 ∧ v = nI n ∧ S' = st_kn S n, fun v _ => 4 - v.toNatClampNeg, ⟨0, by decide, rfl, st_kn_0.symm⟩, ?_⟩
  rintro v S1 - ⟨n, hn, rfl, rfl⟩
  unfold wb_X7_keep_2
  refine ⟨fun hb => ?_, fun hb => ?_⟩
  · have hn2 : n < 4 := (nI_ltI (by omega) (by decide)).mp hb
    have e4 : (4 : Int32) + nI n = nI (4 + n) := nI_add 4 n
    have c1 : (nI n).toNatClampNeg = n := nI_clamp (by omega)
    have c2 : (nI (4 + n)).toNatClampNeg = 4 + n := nI_clamp (by omega)
    have v1 : vp_in (nI n) 8 := vp_in_nI (by omega) (by decide)
    have v2 : vp_in (nI (4 + n)) 8 := vp_in_nI (by omega) (by decide)
    rw [e4, c2, c1, st_kn_e.2.2.2.1, hR.1, st_kn_e.2.1, st_kn_e.2.2.1, hR.2.1, hR.2.2]
    refine ⟨rfl, v2, v1, fun S2 e2 => ⟨⟨n + 1, hn2, nI_1 n, by rw [e2, st_kn_s hn2]⟩, hp_mlt hn2 (by decide)⟩⟩
  · have hn2 : ¬ n < 4 := fun h => hb ((nI_ltI (by omega) (by decide)).mpr h)
    have hn4 : n = 4 := by omega
    subst hn4
    intro S2 e2
    have e9 : st_I (st_kn S 4) 61 39 = nI N := by simp [st_kn_e, hN]
    rw [e9] at e2
    rw [e2]
    refine sp_keep_37 (N := N) ?_ (by simp [st_pI_e]) hN2 k
    exact h.kept ⟨Nat.le_refl _, fun _ _ => ⟨rfl, rfl⟩⟩ rfl
