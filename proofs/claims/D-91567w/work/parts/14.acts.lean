set_option maxRecDepth 100000
--  (13, 1004, 36081)
def wp_X1_acts (o : Nat) (a1 : Int32) (S : hp_St) (Q : Int32 → hp_St → Prop) : Prop := wp_X1_in a1 (0 : Int32) (st_I S o 1) S (fun z1 => (((z1 = 0) → Q (-2 : Int32) S) ∧ ((¬ (z1 = 0)) → (∀ S2, S2 = st_pI S o 1 (0 : Int32) → (∀ S5, S5 = st_pI S2 o 2 (0 : Int32) → (∀ S8, S8 = st_pI S5 o 3 (-1 : Int32) → (st_C S8 (st_R S8 o 6) = 2) ∧ (fun kq => wp_X2_read (st_R S8 o 6) a1 S8 kq (fun n15 S16 => hp_mono S8 S16 → st_C S16 n15 = 8 → (∀ S19, S19 = st_pI S16 o 2 (st_I S16 n15 0) → (∀ S22, S22 = st_pI S19 o 3 (st_I S19 n15 1) → Q (-1 : Int32) S22)))) (fun z12 S13 => hp_mono S8 S13 → (∀ S25, S25 = st_pR S13 o 7 z12 → (∀ S28, S28 = st_pI S25 o 17 (0 : Int32) → (st_C S28 (st_R S28 o 7) = 3) ∧ Q (st_I S28 (st_R S28 o 7) 5) S28)))))))))
theorem nf_X1_acts : hp_nf yX1_acts 1 = true := by decide +kernel
set_option maxHeartbeats 4000000 in
theorem m_X1_acts {l : Launch} {B : Nat} {D : va_G} {s0 : State} {b0 : Nat} (G : hp_G l B D s0 b0) (o : Nat) (a1 : Int32) (Si : hp_St) (Q : Int32 → hp_St → Prop) (hc0 : st_C Si o = 1) (h : wp_X1_acts o a1 Si Q) : hp_MW l B D s0 yX1_acts cX1_acts 3 (some .int) [(30, 42, 45, 144)] 13 832 1004 36081 [hp_v B o, .int a1] Si (hp_Qi B D s0 (fun r S' => hp_mono Si S' ∧ Q r S')) := by
  refine hp_startW G (by decide +kernel) rfl rfl (lv := [(0, hp_v B o), (1, .int a1)]) (by simp [lg_sl, hp_vc, hp_ci, hp_cj]) (by simp [lv_args, hp_vc, hp_ci, hp_cj]) ?_
  intro p e s m args below meth c E htab ls hl hR
  have hm : hp_mono Si Si := hp_mono.rf
  unfold wp_X1_acts at h
  refine hp_iload_n E hl 1 rfl 1 rfl dX1_acts_0 (rfl : 0 + 1 = 1) ?_
  refine hp_iconst E (0 : Int32) (by decide) dX1_acts_1 (rfl : 1 + 1 = 2) ?_
  refine hp_aload_n E hl 0 rfl 0 rfl dX1_acts_2 (rfl : 2 + 1 = 3) ?_
  refine hp_getI E hR in_X1 hc0 rfl 1 (Nat.le_of_ble_eq_true rfl) rfl q316 (fun _ h => h) dX1_acts_3 (rfl : 3 + 3 = 6) ?_
  refine hp_fi (hp_rS E hR hl (m_X1_in G _ _ _ _ _ h) q394 q395 q73 q396 nf_X1_in ⟨Nat.le_of_ble_eq_true rfl, Nat.le_of_ble_eq_true rfl⟩ (rest := []) rfl (Nat.le_of_ble_eq_true rfl) dX1_acts_6 ⟨Nat.le_of_ble_eq_true rfl, Nat.le_of_ble_eq_true rfl⟩) hR (rfl : 6 + 3 = 9) (fun z1 Sx H locs hq hR => ?_)
  obtain ⟨hSx, h⟩ := hq
  rw [hSx] at hR
  refine hp_if_ne E dX1_acts_9 (rfl : 9 + 3 = 12) (tgt := 15) (by decide) (fun hb => ?_) (fun hb => ?_)
  · have h := h.1 hb
    refine hp_bipush E (-2 : Int32) (by decide) dX1_acts_12 (rfl : 12 + 2 = 14) ?_
    exact hp_iret E hR ⟨hm, h⟩ (Nat.le_of_ble_eq_true rfl) (Nat.le_of_ble_eq_true rfl) dX1_acts_14
  · have h := h.2 hb
    refine hp_aload_n E hl 0 rfl 0 rfl dX1_acts_15 (rfl : 15 + 1 = 16) ?_
    refine hp_iconst E (0 : Int32) (by decide) dX1_acts_16 (rfl : 16 + 1 = 17) ?_
    refine hx_putI E hR in_X1 tyX1 tyX1_ok nmX1 hc0 rfl 1 (Nat.le_of_ble_eq_true rfl) rfl q316 (fun _ h => h) (Or.inl rfl) (Or.inl rfl) dX1_acts_17 (rfl : 17 + 3 = 20) (fun S2 H locs e4 hm3 hR => ?_)
    have h := h S2 e4
    have hm := hp_mono.tr hm hm3
    refine hp_aload_n E hl 0 rfl 0 rfl dX1_acts_20 (rfl : 20 + 1 = 21) ?_
    refine hp_iconst E (0 : Int32) (by decide) dX1_acts_21 (rfl : 21 + 1 = 22) ?_
    refine hx_putI E hR in_X1 tyX1 tyX1_ok nmX1 (hp_mono.c hm hc0) rfl 2 (Nat.le_of_ble_eq_true rfl) rfl q317 (fun _ h => h) (Or.inl rfl) (Or.inl rfl) dX1_acts_22 (rfl : 22 + 3 = 25) (fun S5 H locs e7 hm6 hR => ?_)
    have h := h S5 e7
    have hm := hp_mono.tr hm hm6
    refine hp_aload_n E hl 0 rfl 0 rfl dX1_acts_25 (rfl : 25 + 1 = 26) ?_
    refine hp_iconst E (-1 : Int32) (by decide) dX1_acts_26 (rfl : 26 + 1 = 27) ?_
    refine hx_putI E hR in_X1 tyX1 tyX1_ok nmX1 (hp_mono.c hm hc0) rfl 3 (Nat.le_of_ble_eq_true rfl) rfl q318 (fun _ h => h) (Or.inl rfl) (Or.inl rfl) dX1_acts_27 (rfl : 27 + 3 = 30) (fun S8 H locs e10 hm9 hR => ?_)
    have h := h S8 e10
    have hm := hp_mono.tr hm hm9
    refine hp_aload_n E hl 0 rfl 0 rfl dX1_acts_30 (rfl : 30 + 1 = 31) ?_
    refine hp_aload_n E hl 0 rfl 0 rfl dX1_acts_31 (rfl : 31 + 1 = 32) ?_
    refine hp_getR E hR in_X1 (hp_mono.c hm hc0) rfl 6 (Nat.le_of_ble_eq_true rfl) rfl q322 (fun _ h => h) dX1_acts_32 (rfl : 32 + 3 = 35) ?_
    refine hp_iload_n E hl 1 rfl 1 rfl dX1_acts_35 (rfl : 35 + 1 = 36) ?_
    obtain ⟨hc11, h⟩ := h
    have h : wp_X2_read (st_R S8 o 6) a1 S8 _ _ := h
    refine hp_faC E (hp_rVX E hR hl (m_X2_read G _ _ _ _ _ hc11 h) hc11 (ci := 1) rfl rfl q397 q398 q399 q74 q400 nf_X2_read ⟨Nat.le_of_ble_eq_true rfl, Nat.le_of_ble_eq_true rfl⟩ (rest := [hp_v B o]) rfl (Nat.le_of_ble_eq_true rfl) dX1_acts_36 ⟨Nat.le_of_ble_eq_true rfl, Nat.le_of_ble_eq_true rfl⟩) hR htab (by decide) (by decide) q393 q476 (rfl : 36 + 3 = 39) (fun n15 S16 H locs hc17 hq hR => ?_) (fun z12 S13 H locs hq hR => ?_)
    · obtain ⟨hm18, h⟩ := hq
      have h := h hm18 hc17
      have hm := hp_mono.tr hm hm18
      refine hp_astore_n E hl 2 rfl (lv' := [(0, hp_v B o), (1, .int a1)]) dX1_acts_45 (rfl : 45 + 1 = 46) (by decide) rfl (fun ls hl => ?_)
      refine hp_aload_n E hl 0 rfl 1 rfl dX1_acts_46 (rfl : 46 + 1 = 47) ?_
      refine hp_aload_n E hl 2 rfl 0 rfl dX1_acts_47 (rfl : 47 + 1 = 48) ?_
      refine hp_getIN E hR in_N8 hc17 rfl 0 (Nat.le_of_ble_eq_true rfl) rfl q524 (fun _ h => h) dX1_acts_48 (rfl : 48 + 3 = 51) ?_
      refine hx_putI E hR in_X1 tyX1 tyX1_ok nmX1 (hp_mono.c hm hc0) rfl 2 (Nat.le_of_ble_eq_true rfl) rfl q317 (fun _ h => h) (Or.inl rfl) (Or.inl rfl) dX1_acts_51 (rfl : 51 + 3 = 54) (fun S19 H locs e21 hm20 hR => ?_)
      have h := h S19 e21
      have hm := hp_mono.tr hm hm20
      refine hp_aload_n E hl 0 rfl 1 rfl dX1_acts_54 (rfl : 54 + 1 = 55) ?_
      refine hp_aload_n E hl 2 rfl 0 rfl dX1_acts_55 (rfl : 55 + 1 = 56) ?_
      refine hp_getIN E hR in_N8 (hp_mono.c hm20 hc17) rfl 1 (Nat.le_of_ble_eq_true rfl) rfl q526 (fun _ h => h) dX1_acts_56 (rfl : 56 + 3 = 59) ?_
      refine hx_putI E hR in_X1 tyX1 tyX1_ok nmX1 (hp_mono.c hm hc0) rfl 3 (Nat.le_of_ble_eq_true rfl) rfl q318 (fun _ h => h) (Or.inl rfl) (Or.inl rfl) dX1_acts_59 (rfl : 59 + 3 = 62) (fun S22 H locs e24 hm23 hR => ?_)
      have h := h S22 e24
      have hm := hp_mono.tr hm hm23
      refine hp_iconst E (-1 : Int32) (by decide) dX1_acts_62 (rfl : 62 + 1 = 63) ?_
      exact hp_iret E hR ⟨hm, h⟩ (Nat.le_of_ble_eq_true rfl) (Nat.le_of_ble_eq_true rfl) dX1_acts_63
    obtain ⟨hm14, h⟩ := hq
    have h := h hm14
    have hm := hp_mono.tr hm hm14
    refine hx_putR E hR in_X1 tyX1 tyX1_ok nmX1 (hp_mono.c hm hc0) rfl 7 (Nat.le_of_ble_eq_true rfl) rfl q324 (fun _ h => h) (Or.inl rfl) rfl dX1_acts_39 (rfl : 39 + 3 = 42) (fun S25 H locs e27 hm26 hR => ?_)
    have h := h S25 e27
    have hm := hp_mono.tr hm hm26
    refine hp_goto E (tgt := 64) dX1_acts_42 (by decide) ?_
    refine hp_aload_n E hl 0 rfl 0 rfl dX1_acts_64 (rfl : 64 + 1 = 65) ?_
    refine hp_iconst E (0 : Int32) (by decide) dX1_acts_65 (rfl : 65 + 1 = 66) ?_
    refine hx_putI E hR in_X1 tyX1 tyX1_ok nmX1 (hp_mono.c hm hc0) rfl 17 (Nat.le_of_ble_eq_true rfl) rfl q340 (fun _ h => h) (Or.inl rfl) (Or.inr ⟨rfl, (Or.inl rfl)⟩) dX1_acts_66 (rfl : 66 + 3 = 69) (fun S28 H locs e30 hm29 hR => ?_)
    have h := h S28 e30
    have hm := hp_mono.tr hm hm29
    refine hp_aload_n E hl 0 rfl 0 rfl dX1_acts_69 (rfl : 69 + 1 = 70) ?_
    refine hp_getR E hR in_X1 (hp_mono.c hm hc0) rfl 7 (Nat.le_of_ble_eq_true rfl) rfl q324 (fun _ h => h) dX1_acts_70 (rfl : 70 + 3 = 73) ?_
    obtain ⟨hc31, h⟩ := h
    refine hp_getIN E hR in_X3 hc31 rfl 5 (Nat.le_of_ble_eq_true rfl) rfl q200 (fun _ h => h) dX1_acts_73 (rfl : 73 + 3 = 76) ?_
    exact hp_iret E hR ⟨hm, h⟩ (Nat.le_of_ble_eq_true rfl) (Nat.le_of_ble_eq_true rfl) dX1_acts_76
--  (18, 0, 0)
def wb_X1_names_75 (o : Nat) (a1 : Int32) (v2 : Int32) (S : hp_St) (K75 : Int32 → hp_St → Prop) (Q : Int32 → hp_St → Prop) : Prop := (st_C S (st_R S o 15) = 6) ∧ (((v2 < (st_I S (st_R S o 15) 5)) → (st_C S (st_R S (st_R S o 15) 0) = 50) ∧ (vp_in v2 (st_L S (st_R S (st_R S o 15) 0))) ∧ (st_C S (st_R S (st_R S o 15) 4) = 50) ∧ (vp_in v2 (st_L S (st_R S (st_R S o 15) 4))) ∧ (st_C S (st_R S o 16) = 50) ∧ (vp_in (st_I S (st_R S (st_R S o 15) 0) v2.toNatClampNeg) (st_L S (st_R S o 16))) ∧ (∀ S7508, S7508 = st_pI S (st_R S o 16) (st_I S (st_R S (st_R S o 15) 0) v2.toNatClampNeg).toNatClampNeg (st_I S (st_R S (st_R S o 15) 4) v2.toNatClampNeg) → K75 (v2 + (1 : Int32)) S7508)) ∧ ((¬ (v2 < (st_I S (st_R S o 15) 5))) → Q (st_I S (st_R S o 15) 7) S))
def wl_X1_names_75 (o : Nat) (a1 : Int32) (v2 : Int32) (S : hp_St) (Q : Int32 → hp_St → Prop) : Prop := ∃ (I : Int32 → hp_St → Prop) (μ : Int32 → hp_St → Nat), I v2 S ∧ ∀ (v2 : Int32) (S1 : hp_St), hp_mono S S1 → I v2 S1 → wb_X1_names_75 o a1 v2 S1 (fun v2' S2 => I v2' S2 ∧ μ v2' S2 < μ v2 S1) Q
def wb_X1_names_54 (o : Nat) (a1 : Int32) (v2 : Int32) (S : hp_St) (K54 : Int32 → hp_St → Prop) (Q : Int32 → hp_St → Prop) : Prop := (((v2 < (12 : Int32)) → (st_C S (st_R S o 16) = 50) ∧ (vp_in v2 (st_L S (st_R S o 16))) ∧ (∀ S5403, S5403 = st_pI S (st_R S o 16) v2.toNatClampNeg (0 : Int32) → K54 (v2 + (1 : Int32)) S5403)) ∧ ((¬ (v2 < (12 : Int32))) → wl_X1_names_75 o a1 (0 : Int32) S Q))
def wl_X1_names_54 (o : Nat) (a1 : Int32) (v2 : Int32) (S : hp_St) (Q : Int32 → hp_St → Prop) : Prop := ∃ (I : Int32 → hp_St → Prop) (μ : Int32 → hp_St → Nat), I v2 S ∧ ∀ (v2 : Int32) (S1 : hp_St), hp_mono S S1 → I v2 S1 → wb_X1_names_54 o a1 v2 S1 (fun v2' S2 => I v2' S2 ∧ μ v2' S2 < μ v2 S1) Q
def wp_X1_names (o : Nat) (a1 : Int32) (S : hp_St) (Q : Int32 → hp_St → Prop) : Prop := wp_X1_in a1 (0 : Int32) (99999 : Int32) S (fun z1 => (((z1 = 0) → Q (-2147483648 : Int32) S) ∧ ((¬ (z1 = 0)) → (st_C S (st_R S o 15) = 6) ∧ wp_X6_begin (st_R S o 15) a1 S (fun S3 => hp_mono S S3 → (st_C S3 (st_R S3 o 15) = 6) ∧ wp_X6_isSpent (st_R S3 o 15) S3 (fun z6 => (((z6 = 0) → wp_X6_go (st_R S3 o 15) (0 : Int32) (0 : Int32) (0 : Int32) S3 (fun S7 => hp_mono S3 S7 → (∀ S9, S9 = st_pI S7 o 18 (1 : Int32) → wl_X1_names_54 o a1 (0 : Int32) S9 Q))) ∧ ((¬ (z6 = 0)) → Q (-2147483648 : Int32) S3)))))))
theorem nf_X1_names : hp_nf yX1_names 1 = true := by decide +kernel
set_option maxHeartbeats 4000000 in
theorem m_X1_names {l : Launch} {B : Nat} {D : va_G} {s0 : State} {b0 : Nat} (G : hp_G l B D s0 b0) (o : Nat) (a1 : Int32) (Si : hp_St) (Q : Int32 → hp_St → Prop) (hc0 : st_C Si o = 1) (h : wp_X1_names o a1 Si Q) : hp_M l B D s0 yX1_names cX1_names 3 (some .int) 18 1152 0 0 [hp_v B o, .int a1] Si (hp_Qi B D s0 (fun r S' => hp_mono Si S' ∧ Q r S')) := by
  refine hp_start G (by decide +kernel) rfl rfl (lv := [(0, hp_v B o), (1, .int a1)]) (by simp [lg_sl, hp_vc, hp_ci, hp_cj]) (by simp [lv_args, hp_vc, hp_ci, hp_cj]) ?_
  intro p e s m args below meth c E ls hl hR
  have hm : hp_mono Si Si := hp_mono.rf
  generalize hH : s.heap = H at hR ⊢
  generalize hLo : ([] : List Loc) = locs at hR ⊢
  have b75 : ∀ (v2 : Int32) (S : hp_St) (H : Heap) (locs : List Loc) (ls : Array Slot), wl_X1_names_75 o a1 v2 S Q → lv_has ls 3 [(0, hp_v B o), (2, .int v2)] → hp_S B D s0 S H locs → hp_mono Si S → W p l e ({ frames := 18, cells := 0, slots := 0, locals := 1152 } : Room) s m args below meth c H locs 0 0 (MQ below (hp_Qi B D s0 (fun r S' => hp_mono Si S' ∧ Q r S')) args s 0 0 (fun q => B < q)) (F0 m 75 ls []) := by
    intro v2 S H locs ls h hl hR hm
    obtain ⟨I75, μ75, hI, hst⟩ := h
    obtain ⟨Sa75, eSa75⟩ : ∃ x, x = S := ⟨_, rfl⟩
    subst eSa75
    have key75 : ∀ (N : Nat) (v2 : Int32) (Su75 : hp_St) (H : Heap) (locs : List Loc) (ls : Array Slot), μ75 v2 Su75 < N → I75 v2 Su75 → lv_has ls 3 [(0, hp_v B o), (2, .int v2)] → hp_S B D s0 Su75 H locs → hp_mono Sa75 Su75 → W p l e ({ frames := 18, cells := 0, slots := 0, locals := 1152 } : Room) s m args below meth c H locs 0 0 (MQ below (hp_Qi B D s0 (fun r S' => hp_mono Si S' ∧ Q r S')) args s 0 0 (fun q => B < q)) (F0 m 75 ls []) := by
      intro N
      induction N with
      | zero =>
        intro v2 Su75 H locs ls hN
        exact absurd hN (Nat.not_lt_zero _)
      | succ N ih75 =>
        intro v2 Su75 H locs ls hN hI hl hR ms75
        have h := hst v2 Su75 ms75 hI
        have hm := hp_mono.tr hm ms75
        obtain ⟨K75, hKe75⟩ : ∃ K : Int32 → hp_St → Prop, K = (fun v2' Sk => I75 v2' Sk ∧ μ75 v2' Sk < μ75 v2 Su75) := ⟨_, rfl⟩
        rw [← hKe75] at h
        have hK75 : ∀ (v2' : Int32) (Sk : hp_St) (H : Heap) (locs : List Loc) (ls : Array Slot), K75 v2' Sk → lv_has ls 3 [(0, hp_v B o), (2, .int (v2'))] → hp_S B D s0 Sk H locs → hp_mono Sa75 Sk → W p l e ({ frames := 18, cells := 0, slots := 0, locals := 1152 } : Room) s m args below meth c H locs 0 0 (MQ below (hp_Qi B D s0 (fun r S' => hp_mono Si S' ∧ Q r S')) args s 0 0 (fun q => B < q)) (F0 m 75 ls []) := by
          intro v2' Sk H locs ls hI hl hR ms
          rw [hKe75] at hI
          exact ih75 v2' Sk H locs ls (Nat.lt_of_lt_of_le hI.2 (Nat.le_of_lt_succ hN)) hI.1 hl hR ms
        unfold wb_X1_names_75 at h
        refine hp_iload_n E hl 2 rfl 1 rfl dX1_names_75 (rfl : 75 + 1 = 76) ?_
        refine hp_aload_n E hl 0 rfl 0 rfl dX1_names_76 (rfl : 76 + 1 = 77) ?_
        refine hp_getR E hR in_X1 (hp_mono.c hm hc0) rfl 15 (Nat.le_of_ble_eq_true rfl) rfl q338 (fun _ h => h) dX1_names_77 (rfl : 77 + 3 = 80) ?_
        obtain ⟨hc7501, h⟩ := h
        refine hp_getIN E hR in_X6 hc7501 rfl 5 (Nat.le_of_ble_eq_true rfl) rfl q284 (fun _ h => h) dX1_names_80 (rfl : 80 + 3 = 83) ?_
        refine hp_icmp_ge E dX1_names_83 (rfl : 83 + 3 = 86) (tgt := 115) (by decide) (fun hb => ?_) (fun hb => ?_)
        · have h := h.1 hb
          refine hp_aload_n E hl 0 rfl 0 rfl dX1_names_86 (rfl : 86 + 1 = 87) ?_
          refine hp_getR E hR in_X1 (hp_mono.c hm hc0) rfl 16 (Nat.le_of_ble_eq_true rfl) rfl q339 (fun _ h => h) dX1_names_87 (rfl : 87 + 3 = 90) ?_
          refine hp_aload_n E hl 0 rfl 0 rfl dX1_names_90 (rfl : 90 + 1 = 91) ?_
          refine hp_getR E hR in_X1 (hp_mono.c hm hc0) rfl 15 (Nat.le_of_ble_eq_true rfl) rfl q338 (fun _ h => h) dX1_names_91 (rfl : 91 + 3 = 94) ?_
          refine hp_getRN E hR in_X6 hc7501 rfl 0 (Nat.le_of_ble_eq_true rfl) rfl q277 (fun _ h => h) dX1_names_94 (rfl : 94 + 3 = 97) ?_
          refine hp_iload_n E hl 2 rfl 1 rfl dX1_names_97 (rfl : 97 + 1 = 98) ?_
          obtain ⟨hc7502, h⟩ := h
          obtain ⟨hi7503, h⟩ := h
          refine hp_iald E hR hc7502 hi7503 dX1_names_98 (rfl : 98 + 1 = 99) ?_
          refine hp_aload_n E hl 0 rfl 0 rfl dX1_names_99 (rfl : 99 + 1 = 100) ?_
          refine hp_getR E hR in_X1 (hp_mono.c hm hc0) rfl 15 (Nat.le_of_ble_eq_true rfl) rfl q338 (fun _ h => h) dX1_names_100 (rfl : 100 + 3 = 103) ?_
          refine hp_getRN E hR in_X6 hc7501 rfl 4 (Nat.le_of_ble_eq_true rfl) rfl q282 (fun _ h => h) dX1_names_103 (rfl : 103 + 3 = 106) ?_
          refine hp_iload_n E hl 2 rfl 1 rfl dX1_names_106 (rfl : 106 + 1 = 107) ?_
          obtain ⟨hc7504, h⟩ := h
          obtain ⟨hi7505, h⟩ := h
          refine hp_iald E hR hc7504 hi7505 dX1_names_107 (rfl : 107 + 1 = 108) ?_
          obtain ⟨hc7506, h⟩ := h
          obtain ⟨hi7507, h⟩ := h
          refine hx_iast E hR hc7506 hi7507 dX1_names_108 (rfl : 108 + 1 = 109) (fun S7508 H locs e7510 hm7509 hR => ?_)
          have h := h S7508 e7510
          have hm := hp_mono.tr hm hm7509
          have ms75 := hp_mono.tr ms75 hm7509
          refine hp_iinc E hl (v2 + (1 : Int32)) 1 (lv' := [(0, hp_v B o)]) dX1_names_109 (rfl : 109 + 3 = 112) rfl (by first | rfl | (congr 1)) (by decide) rfl (fun ls hl => ?_)
          refine hp_goto E (tgt := 75) dX1_names_112 (by decide) ?_
          exact hK75 _ _ _ _ _ h (lv_sub hl [1, 0] rfl) hR ms75
        · have h := h.2 hb
          refine hp_aload_n E hl 0 rfl 0 rfl dX1_names_115 (rfl : 115 + 1 = 116) ?_
          refine hp_getR E hR in_X1 (hp_mono.c hm hc0) rfl 15 (Nat.le_of_ble_eq_true rfl) rfl q338 (fun _ h => h) dX1_names_116 (rfl : 116 + 3 = 119) ?_
          refine hp_getIN E hR in_X6 hc7501 rfl 7 (Nat.le_of_ble_eq_true rfl) rfl q287 (fun _ h => h) dX1_names_119 (rfl : 119 + 3 = 122) ?_
          exact hp_iret E hR ⟨hm, h⟩ (Nat.le_of_ble_eq_true rfl) (Nat.le_of_ble_eq_true rfl) dX1_names_122
    exact key75 (μ75 v2 Sa75 + 1) v2 _ H locs ls (Nat.lt_succ_self _) hI hl hR hp_mono.rf
  have b54 : ∀ (v2 : Int32) (S : hp_St) (H : Heap) (locs : List Loc) (ls : Array Slot), wl_X1_names_54 o a1 v2 S Q → lv_has ls 3 [(0, hp_v B o), (2, .int v2)] → hp_S B D s0 S H locs → hp_mono Si S → W p l e ({ frames := 18, cells := 0, slots := 0, locals := 1152 } : Room) s m args below meth c H locs 0 0 (MQ below (hp_Qi B D s0 (fun r S' => hp_mono Si S' ∧ Q r S')) args s 0 0 (fun q => B < q)) (F0 m 54 ls []) := by
    intro v2 S H locs ls h hl hR hm
    obtain ⟨I54, μ54, hI, hst⟩ := h
    obtain ⟨Sa54, eSa54⟩ : ∃ x, x = S := ⟨_, rfl⟩
    subst eSa54
    have key54 : ∀ (N : Nat) (v2 : Int32) (Su54 : hp_St) (H : Heap) (locs : List Loc) (ls : Array Slot), μ54 v2 Su54 < N → I54 v2 Su54 → lv_has ls 3 [(0, hp_v B o), (2, .int v2)] → hp_S B D s0 Su54 H locs → hp_mono Sa54 Su54 → W p l e ({ frames := 18, cells := 0, slots := 0, locals := 1152 } : Room) s m args below meth c H locs 0 0 (MQ below (hp_Qi B D s0 (fun r S' => hp_mono Si S' ∧ Q r S')) args s 0 0 (fun q => B < q)) (F0 m 54 ls []) := by
      intro N
      induction N with
      | zero =>
        intro v2 Su54 H locs ls hN
        exact absurd hN (Nat.not_lt_zero _)
      | succ N ih54 =>
        intro v2 Su54 H locs ls hN hI hl hR ms54
        have h := hst v2 Su54 ms54 hI
        have hm := hp_mono.tr hm ms54
        obtain ⟨K54, hKe54⟩ : ∃ K : Int32 → hp_St → Prop, K = (fun v2' Sk => I54 v2' Sk ∧ μ54 v2' Sk < μ54 v2 Su54) := ⟨_, rfl⟩
        rw [← hKe54] at h
        have hK54 : ∀ (v2' : Int32) (Sk : hp_St) (H : Heap) (locs : List Loc) (ls : Array Slot), K54 v2' Sk → lv_has ls 3 [(0, hp_v B o), (2, .int (v2'))] → hp_S B D s0 Sk H locs → hp_mono Sa54 Sk → W p l e ({ frames := 18, cells := 0, slots := 0, locals := 1152 } : Room) s m args below meth c H locs 0 0 (MQ below (hp_Qi B D s0 (fun r S' => hp_mono Si S' ∧ Q r S')) args s 0 0 (fun q => B < q)) (F0 m 54 ls []) := by
          intro v2' Sk H locs ls hI hl hR ms
          rw [hKe54] at hI
          exact ih54 v2' Sk H locs ls (Nat.lt_of_lt_of_le hI.2 (Nat.le_of_lt_succ hN)) hI.1 hl hR ms
        unfold wb_X1_names_54 at h
        refine hp_iload_n E hl 2 rfl 1 rfl dX1_names_54 (rfl : 54 + 1 = 55) ?_
        refine hp_bipush E (12 : Int32) (by decide) dX1_names_55 (rfl : 55 + 2 = 57) ?_
        refine hp_icmp_ge E dX1_names_57 (rfl : 57 + 3 = 60) (tgt := 73) (by decide) (fun hb => ?_) (fun hb => ?_)
        · have h := h.1 hb
          refine hp_aload_n E hl 0 rfl 0 rfl dX1_names_60 (rfl : 60 + 1 = 61) ?_
          refine hp_getR E hR in_X1 (hp_mono.c hm hc0) rfl 16 (Nat.le_of_ble_eq_true rfl) rfl q339 (fun _ h => h) dX1_names_61 (rfl : 61 + 3 = 64) ?_
          refine hp_iload_n E hl 2 rfl 1 rfl dX1_names_64 (rfl : 64 + 1 = 65) ?_
          refine hp_iconst E (0 : Int32) (by decide) dX1_names_65 (rfl : 65 + 1 = 66) ?_
          obtain ⟨hc5401, h⟩ := h
          obtain ⟨hi5402, h⟩ := h
          refine hx_iast E hR hc5401 hi5402 dX1_names_66 (rfl : 66 + 1 = 67) (fun S5403 H locs e5405 hm5404 hR => ?_)
          have h := h S5403 e5405
          have hm := hp_mono.tr hm hm5404
          have ms54 := hp_mono.tr ms54 hm5404
          refine hp_iinc E hl (v2 + (1 : Int32)) 1 (lv' := [(0, hp_v B o)]) dX1_names_67 (rfl : 67 + 3 = 70) rfl (by first | rfl | (congr 1)) (by decide) rfl (fun ls hl => ?_)
          refine hp_goto E (tgt := 54) dX1_names_70 (by decide) ?_
          exact hK54 _ _ _ _ _ h (lv_sub hl [1, 0] rfl) hR ms54
        · have h := h.2 hb
          refine hp_iconst E (0 : Int32) (by decide) dX1_names_73 (rfl : 73 + 1 = 74) ?_
          refine hp_istore_n E hl 2 rfl (lv' := [(0, hp_v B o)]) dX1_names_74 (rfl : 74 + 1 = 75) (by decide) rfl (fun ls hl => ?_)
          exact b75 _ _ _ _ _ h (lv_sub hl [1, 0] rfl) hR hm
    exact key54 (μ54 v2 Sa54 + 1) v2 _ H locs ls (Nat.lt_succ_self _) hI hl hR hp_mono.rf
  unfold wp_X1_names at h
  refine hp_iload_n E hl 1 rfl 1 rfl dX1_names_0 (rfl : 0 + 1 = 1) ?_
  refine hp_iconst E (0 : Int32) (by decide) dX1_names_1 (rfl : 1 + 1 = 2) ?_
  refine hp_ldcw E q1111 dX1_names_2 (rfl : 2 + 3 = 5) ?_
  refine hp_fi (hp_rS E hR hl (m_X1_in G _ _ _ _ _ h) q394 q395 q73 q396 nf_X1_in ⟨Nat.le_of_ble_eq_true rfl, Nat.le_of_ble_eq_true rfl⟩ (rest := []) rfl (Nat.le_of_ble_eq_true rfl) dX1_names_5 ⟨Nat.le_of_ble_eq_true rfl, Nat.le_of_ble_eq_true rfl⟩) hR (rfl : 5 + 3 = 8) (fun z1 Sx H locs hq hR => ?_)
  obtain ⟨hSx, h⟩ := hq
  rw [hSx] at hR
  refine hp_if_ne E dX1_names_8 (rfl : 8 + 3 = 11) (tgt := 15) (by decide) (fun hb => ?_) (fun hb => ?_)
  · have h := h.1 hb
    refine hp_ldcw E q1112 dX1_names_11 (rfl : 11 + 3 = 14) ?_
    exact hp_iret E hR ⟨hm, h⟩ (Nat.le_of_ble_eq_true rfl) (Nat.le_of_ble_eq_true rfl) dX1_names_14
  · have h := h.2 hb
    refine hp_aload_n E hl 0 rfl 0 rfl dX1_names_15 (rfl : 15 + 1 = 16) ?_
    refine hp_getR E hR in_X1 hc0 rfl 15 (Nat.le_of_ble_eq_true rfl) rfl q338 (fun _ h => h) dX1_names_16 (rfl : 16 + 3 = 19) ?_
    refine hp_iload_n E hl 1 rfl 1 rfl dX1_names_19 (rfl : 19 + 1 = 20) ?_
    obtain ⟨hc2, h⟩ := h
    refine hp_fv (hp_rV E hR hl (m_X6_begin G _ _ _ _ hc2 h) hc2 (ci := 5) rfl rfl q1113 q1114 q1115 q81 q1116 nf_X6_begin ⟨Nat.le_of_ble_eq_true rfl, Nat.le_of_ble_eq_true rfl⟩ (rest := []) rfl (Nat.le_of_ble_eq_true rfl) dX1_names_20 ⟨Nat.le_of_ble_eq_true rfl, Nat.le_of_ble_eq_true rfl⟩) hR (rfl : 20 + 3 = 23) (fun S3 H locs hq hR => ?_)
    obtain ⟨hm4, h⟩ := hq
    have h := h hm4
    have hm := hp_mono.tr hm hm4
    refine hp_aload_n E hl 0 rfl 0 rfl dX1_names_23 (rfl : 23 + 1 = 24) ?_
    refine hp_getR E hR in_X1 (hp_mono.c hm hc0) rfl 15 (Nat.le_of_ble_eq_true rfl) rfl q338 (fun _ h => h) dX1_names_24 (rfl : 24 + 3 = 27) ?_
    obtain ⟨hc5, h⟩ := h
    refine hp_fi (hp_rV E hR hl (m_X6_isSpent G _ _ _ hc5 h) hc5 (ci := 5) rfl rfl q1124 q1125 q1126 q81 q1127 nf_X6_isSpent ⟨Nat.le_of_ble_eq_true rfl, Nat.le_of_ble_eq_true rfl⟩ (rest := []) rfl (Nat.le_of_ble_eq_true rfl) dX1_names_27 ⟨Nat.le_of_ble_eq_true rfl, Nat.le_of_ble_eq_true rfl⟩) hR (rfl : 27 + 3 = 30) (fun z6 Sx H locs hq hR => ?_)
    obtain ⟨hSx, h⟩ := hq
    rw [hSx] at hR
    refine hp_if_eq E dX1_names_30 (rfl : 30 + 3 = 33) (tgt := 37) (by decide) (fun hb => ?_) (fun hb => ?_)
    · have h := h.1 hb
      refine hp_aload_n E hl 0 rfl 0 rfl dX1_names_37 (rfl : 37 + 1 = 38) ?_
      refine hp_getR E hR in_X1 (hp_mono.c hm hc0) rfl 15 (Nat.le_of_ble_eq_true rfl) rfl q338 (fun _ h => h) dX1_names_38 (rfl : 38 + 3 = 41) ?_
      refine hp_iconst E (0 : Int32) (by decide) dX1_names_41 (rfl : 41 + 1 = 42) ?_
      refine hp_iconst E (0 : Int32) (by decide) dX1_names_42 (rfl : 42 + 1 = 43) ?_
      refine hp_iconst E (0 : Int32) (by decide) dX1_names_43 (rfl : 43 + 1 = 44) ?_
      refine hp_fv (hp_rV E hR hl (m_X6_go G _ _ _ _ _ _ hc5 h) hc5 (ci := 5) rfl rfl q1128 q1129 q1130 q81 q1131 nf_X6_go ⟨Nat.le_of_ble_eq_true rfl, Nat.le_of_ble_eq_true rfl⟩ (rest := []) rfl (Nat.le_of_ble_eq_true rfl) dX1_names_44 ⟨Nat.le_of_ble_eq_true rfl, Nat.le_of_ble_eq_true rfl⟩) hR (rfl : 44 + 3 = 47) (fun S7 H locs hq hR => ?_)
      obtain ⟨hm8, h⟩ := hq
      have h := h hm8
      have hm := hp_mono.tr hm hm8
      refine hp_aload_n E hl 0 rfl 0 rfl dX1_names_47 (rfl : 47 + 1 = 48) ?_
      refine hp_iconst E (1 : Int32) (by decide) dX1_names_48 (rfl : 48 + 1 = 49) ?_
      refine hx_putI E hR in_X1 tyX1 tyX1_ok nmX1 (hp_mono.c hm hc0) rfl 18 (Nat.le_of_ble_eq_true rfl) rfl q341 (fun _ h => h) (Or.inl rfl) (Or.inr ⟨rfl, (Or.inr rfl)⟩) dX1_names_49 (rfl : 49 + 3 = 52) (fun S9 H locs e11 hm10 hR => ?_)
      have h := h S9 e11
      have hm := hp_mono.tr hm hm10
      refine hp_iconst E (0 : Int32) (by decide) dX1_names_52 (rfl : 52 + 1 = 53) ?_
      refine hp_istore_n E hl 2 rfl (lv' := [(0, hp_v B o), (1, .int a1)]) dX1_names_53 (rfl : 53 + 1 = 54) (by decide) rfl (fun ls hl => ?_)
      exact b54 _ _ _ _ _ h (lv_sub hl [1, 0] rfl) hR hm
    · have h := h.2 hb
      refine hp_ldcw E q1112 dX1_names_33 (rfl : 33 + 3 = 36) ?_
      exact hp_iret E hR ⟨hm, h⟩ (Nat.le_of_ble_eq_true rfl) (Nat.le_of_ble_eq_true rfl) dX1_names_36
