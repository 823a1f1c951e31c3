/-! PURE 2: the constructors -/
set_option maxRecDepth 100000
/-- ints written from the start of a on -/
def st_fl (S : hp_St) (a n : Nat) (v : Int32) : hp_St := (st_Z S, st_C S, st_L S, (fun q j => if q = a ∧ j < n then v else st_I S q j), st_R S, st_J S)
theorem st_fl_0 {S : hp_St} {a : Nat} {v : Int32} : st_fl S a 0 v = S := by
  unfold st_fl
  simp
  rfl
theorem st_fl_s {S : hp_St} {a n : Nat} {v : Int32} : st_pI (st_fl S a n v) a n v = st_fl S a (n + 1) v := by
  unfold st_fl st_pI
  simp only [st_Z, st_C, st_L, st_I, st_R, st_J]
  congr 1
  congr 1
  congr 1
  congr 1
  funext q j
  by_cases h1 : q = a
  · by_cases h2 : j = n
    · simp [h1, h2]
    · by_cases h3 : j < n
      · simp [h1, h2, h3, show j < n + 1 by omega]
      · simp [h1, h2, h3, show ¬ j < n + 1 by omega]
  · simp [h1]
def st_a : hp_St := (st_nA st_0 1 0)
def st_b : hp_St := (st_pR (st_nA (st_pR (st_pR (st_nA (st_pR (st_nA (st_pR (st_nA (st_pR (st_nA (st_pR (st_nA (st_pR (st_nA (st_pR (st_pR (st_n2 (st_pR (st_n2 (st_pR (st_nA (st_pR (st_pR (st_nA (st_pR (st_n2 (st_pR (st_nA (st_pR (st_nA (st_pR (st_n2 (st_pR (st_n2 (st_pR (st_pR (st_nA (st_pI (st_nA (st_pR (st_pR (st_nA (st_pI (st_nA (st_pR (st_pR (st_nA (st_pI (st_nA (st_pR (st_pI (st_pI (st_pI (st_pR (st_pR (st_nA (st_pI (st_nA (st_nA (st_pR (st_pR (st_nA (st_pI (st_pR (st_nA st_a 52 500) 1 0 2) 1 3 (-1 : Int32)) 2 0) 3 7 1) 1 6 3) 3 0) 17 0) 5 0 (0 : Int32)) 54 1) 5 1 6) 4 0 5) 4 1 (4 : Int32)) 4 3 (20 : Int32)) 4 4 (3 : Int32)) 1 7 4) 17 0) 7 0 (0 : Int32)) 54 12) 7 1 8) 1 8 7) 17 0) 9 0 (0 : Int32)) 54 16) 9 1 10) 1 9 9) 17 0) 11 0 (0 : Int32)) 54 60) 11 1 12) 1 10 11) 55 50 4 10) 1 11 13) 55 50 8 80) 1 12 18) 4 0) 27 4 1) 50 12) 27 0 28) 56 51 12 80) 27 1 29) 51 60) 27 2 42) 1 13 27) 5 0) 43 2 1) 55 50 4 10) 43 0 44) 55 50 4 10) 43 1 49) 1 14 43) 6 0) 54 10 1) 50 12) 54 0 55) 50 12) 54 1 56) 50 12) 54 2 57) 50 12) 54 3 58) 50 12) 54 4 59) 1 15 54) 50 12) 1 16 60)
theorem st_Ze : st_Z st_0 = 1 ∧ st_Z st_a = 2 ∧ st_Z st_b = 61 := by decide +kernel
theorem z_nA {S : hp_St} {c l : Nat} : st_Z (st_nA S c l) = st_Z S + 1 := rfl
theorem z_n2 {S : hp_St} {a b c d : Nat} : st_Z (st_n2 S a b c d) = st_Z S + 1 + c := rfl
theorem z_pI {S : hp_St} {n k : Nat} {v : Int32} : st_Z (st_pI S n k v) = st_Z S := rfl
theorem z_pR {S : hp_St} {n k v : Nat} : st_Z (st_pR S n k v) = st_Z S := rfl
theorem z_fl {S : hp_St} {n k : Nat} {v : Int32} : st_Z (st_fl S n k v) = st_Z S := rfl
set_option maxHeartbeats 4000000 in
theorem init_X1a {Q : hp_St → Prop} (h : wl_X1_init_157 1 13 (nI 4) 0 st_b Q) : wp_X1_init 1 st_a Q := by
  have hz : st_Z st_a = 2 := rfl
  unfold wp_X1_init wp_X2_init wp_X3_init wp_X4_init wp_X5_init wp_X6_init wp_J2_init wp_J1_init wp_J0_init wb_J2_init_60
  repeat (first
    | (intro n S hn hS _; simp only [z_nA, z_n2, z_pI, z_pR, hz, Nat.reduceAdd] at hn; subst hn; subst hS)
    | (intro S hS; subst hS)
    | (intro _)
    | (refine ⟨fun hb => absurd hb (by decide), fun _ => ⟨by decide, by decide, ?_⟩⟩))
  refine ⟨by decide +kernel, ?_⟩
  exact h

theorem hp_mlt {n N : Nat} (h : n < N) (hN : N < 2 ^ 31) : N - (nI n + 1).toNatClampNeg < N - (nI n).toNatClampNeg := by
  rw [nI_1, nI_clamp (by omega), nI_clamp (by omega)]
  omega
def st_rows : Nat → hp_St
  | 0 => st_b
  | n + 1 => st_fl (st_rows n) (14 + n) 10 900
theorem st_rows_e : ∀ n, st_C (st_rows n) = st_C st_b ∧ st_L (st_rows n) = st_L st_b ∧ st_R (st_rows n) = st_R st_b ∧ st_Z (st_rows n) = st_Z st_b
  | 0 => ⟨rfl, rfl, rfl, rfl⟩
  | n + 1 => st_rows_e n
theorem init_170 {o r1 r : Nat} {v2 v3 : Int32} {S : hp_St} {K : Int32 → hp_St → Prop} {Q : hp_St → Prop} (hc : st_C S r = 50) (hl : st_L S r = 10) (h : K (v3 + 1) (st_fl S r 10 900)) : wl_X1_init_170 o r1 v2 v3 r 0 S K Q := by
  refine ⟨fun v S' => ∃ n, n ≤ 10 ∧ v = nI n ∧ S' = st_fl S r n 900, fun v _ => 10 - v.toNatClampNeg, ⟨0, by decide, rfl, st_fl_0.symm⟩, ?_⟩
  rintro v S1 - ⟨n, hn, rfl, rfl⟩
  refine ⟨fun hb => ⟨hc, ?_, fun S2 e2 => ⟨⟨n + 1, ?_, (nI_1 n), ?_⟩, ?_⟩⟩, fun hb => ?_⟩
  · have hn2 : n < 10 := (nI_ltI (by omega) (by decide)).mp hb
    show vp_in (nI n) (st_L S r)
    rw [hl]
    exact vp_in_nI hn2 (by decide)
  · have hn2 : n < 10 := (nI_ltI (by omega) (by decide)).mp hb
    omega
  · rw [e2, nI_clamp (by omega), st_fl_s]
  · have hn2 : n < 10 := (nI_ltI (by omega) (by decide)).mp hb
    exact hp_mlt hn2 (by decide)
  · have hn2 : ¬ n < 10 := fun h => hb ((nI_ltI (by omega) (by decide)).mpr h)
    have : n = 10 := by omega
    subst this
    exact h
theorem init_X1 {Q : hp_St → Prop} (h : Q (st_rows 4)) : wp_X1_init 1 st_a Q := by
  refine init_X1a ?_
  refine ⟨fun v S' => ∃ n, n ≤ 4 ∧ v = nI n ∧ S' = st_rows n, fun v _ => 4 - v.toNatClampNeg, ⟨0, by decide, rfl, rfl⟩, ?_⟩
  rintro v S1 - ⟨n, hn, rfl, rfl⟩
  obtain ⟨eC, eL, eR, -⟩ := st_rows_e n
  refine ⟨fun hb => ?_, fun hb => ?_⟩
  · have hn2 : n < 4 := (nI_ltI (by omega) (by decide)).mp hb
    have hrow : ∀ n, n < 4 → st_R st_b 13 n = 14 + n ∧ st_C st_b (14 + n) = 50 ∧ st_L st_b (14 + n) = 10 := by decide +kernel
    obtain ⟨h1, h2, h3⟩ := hrow n hn2
    rw [eC, eL, eR, nI_clamp (by omega), h1]
    refine ⟨by decide +kernel, ?_, ?_⟩
    · rw [show st_L st_b 13 = 4 by decide +kernel]
      exact vp_in_nI hn2 (by decide)
    · refine init_170 (by rw [eC]; exact h2) (by rw [eL]; exact h3) ⟨⟨n + 1, by omega, nI_1 n, rfl⟩, ?_⟩
      exact hp_mlt hn2 (by decide)
  · have hn2 : ¬ n < 4 := fun h => hb ((nI_ltI (by omega) (by decide)).mpr h)
    have : n = 4 := by omega
    subst this
    exact h

def st_c : hp_St := (st_nA (st_rows 4) 7 0)
def st_d : hp_St := (st_pR (st_nA (st_pR (st_nA (st_pR (st_nA (st_pR (st_nA (st_pR (st_nA (st_pR (st_nA (st_pR (st_nA (st_pR (st_nA (st_pR (st_nA (st_pR (st_nA (st_pR (st_nA (st_pR (st_nA (st_pR (st_nA (st_pR (st_nA (st_pR (st_nA (st_pR (st_nA (st_pR (st_nA (st_pR (st_nA (st_pR (st_nA (st_pR (st_nA (st_pI (st_pR (st_pI (st_pI (st_pI (st_pI (st_pI (st_pI (st_pI (st_pI (st_pI (st_pI (st_pI (st_pI (st_pI (st_pI (st_pI (st_pI (st_pI (st_pI (st_pI (st_pI (st_pI (st_pI (st_pI (st_pI (st_pI (st_pI (st_pI (st_pI (st_pI (st_pI (st_pI (st_pI (st_pI (st_pI (st_pI (st_pI (st_pI (st_pI (st_pI (st_pI (st_pI (st_pI (st_pI (st_pI (st_pI (st_pI (st_pI (st_pI (st_pI (st_pI (st_pI (st_pI (st_pI (st_pI (st_pI (st_pI (st_pI (st_pI (st_pI (st_pI (st_pI (st_pI (st_pI (st_pI (st_pI (st_pI (st_pI (st_pI (st_pI (st_pI (st_pI (st_pI (st_pI (st_pI (st_pI (st_nA (st_pR (st_nA (st_pR (st_nA (st_pR (st_nA (st_pR (st_nA (st_pR (st_nA (st_pR (st_nA (st_pR (st_nA (st_pR (st_nA (st_pR (st_nA (st_pR (st_nA (st_pR (st_nA (st_pR (st_nA (st_pR (st_nA (st_pR (st_nA (st_pR (st_nA st_c 50 500) 61 0 62) 50 12) 61 5 63) 50 12) 61 6 64) 50 16) 61 8 65) 50 16) 61 9 66) 50 16) 61 10 67) 50 16) 61 11 68) 50 16) 61 12 69) 50 16) 61 13 70) 50 200) 61 15 71) 50 60) 61 17 72) 50 60) 61 18 73) 50 60) 61 19 74) 50 60) 61 20 75) 50 40) 61 21 76) 50 75) 77 0 (109 : Int32)) 77 1 (97 : Int32)) 77 2 (121 : Int32)) 77 3 (32 : Int32)) 77 4 (98 : Int32)) 77 5 (97 : Int32)) 77 6 (114 : Int32)) 77 7 (32 : Int32)) 77 8 (112 : Int32)) 77 9 (114 : Int32)) 77 10 (105 : Int32)) 77 11 (99 : Int32)) 77 12 (101 : Int32)) 77 13 (32 : Int32)) 77 14 (108 : Int32)) 77 15 (117 : Int32)) 77 16 (109 : Int32)) 77 17 (112 : Int32)) 77 18 (32 : Int32)) 77 19 (97 : Int32)) 77 20 (114 : Int32)) 77 21 (114 : Int32)) 77 22 (101 : Int32)) 77 23 (97 : Int32)) 77 24 (114 : Int32)) 77 25 (115 : Int32)) 77 26 (32 : Int32)) 77 27 (119 : Int32)) 77 28 (97 : Int32)) 77 29 (105 : Int32)) 77 30 (116 : Int32)) 77 31 (32 : Int32)) 77 32 (114 : Int32)) 77 33 (97 : Int32)) 77 34 (116 : Int32)) 77 35 (101 : Int32)) 77 36 (32 : Int32)) 77 37 (99 : Int32)) 77 38 (97 : Int32)) 77 39 (112 : Int32)) 77 40 (32 : Int32)) 77 41 (97 : Int32)) 77 42 (103 : Int32)) 77 43 (101 : Int32)) 77 44 (32 : Int32)) 77 45 (99 : Int32)) 77 46 (108 : Int32)) 77 47 (97 : Int32)) 77 48 (115 : Int32)) 77 49 (115 : Int32)) 77 50 (32 : Int32)) 77 51 (104 : Int32)) 77 52 (97 : Int32)) 77 53 (108 : Int32)) 77 54 (102 : Int32)) 77 55 (32 : Int32)) 77 56 (106 : Int32)) 77 57 (111 : Int32)) 77 58 (105 : Int32)) 77 59 (110 : Int32)) 77 60 (116 : Int32)) 77 61 (32 : Int32)) 77 62 (115 : Int32)) 77 63 (105 : Int32)) 77 64 (110 : Int32)) 77 65 (103 : Int32)) 77 66 (108 : Int32)) 77 67 (101 : Int32)) 77 68 (32 : Int32)) 77 69 (116 : Int32)) 77 70 (111 : Int32)) 77 71 (32 : Int32)) 77 72 (111 : Int32)) 77 73 (114 : Int32)) 77 74 (32 : Int32)) 61 22 77) 61 24 (-1 : Int32)) 50 48) 61 30 78) 50 48) 61 31 79) 50 48) 61 32 80) 50 48) 61 33 81) 50 48) 61 34 82) 50 48) 61 35 83) 50 48) 61 36 84) 50 48) 61 37 85) 50 8) 61 40 86) 51 4) 61 41 87) 51 60) 61 44 88) 50 12) 61 45 89) 50 1280) 61 46 90) 50 8) 61 47 91) 50 40) 61 51 92) 50 12) 61 53 93) 50 12) 61 54 94) 50 12) 61 55 95) 50 12) 61 56 96) 50 12) 61 57 97)
theorem st_Ze2 : st_Z st_c = 62 ∧ st_Z st_d = 98 := by decide +kernel
set_option maxHeartbeats 4000000 in
theorem init_X7a {Q : hp_St → Prop} (h : wl_X7_init_745 61 0 st_d Q) : wp_X7_init 61 st_c Q := by
  have hz : st_Z st_c = 62 := rfl
  unfold wp_X7_init
  repeat (first
    | (intro n S hn hS _; simp only [z_nA, z_n2, z_pI, z_pR, hz, Nat.reduceAdd] at hn; subst hn; subst hS)
    | (intro S hS; subst hS)
    | (refine ⟨by unfold vp_in; decide +kernel, ?_⟩))
  exact h
