set_option maxRecDepth 100000
def wb_X7_plain_33 (o : Nat) (v1 : Int32) (S : hp_St) (K33 : Int32 → hp_St → Prop) (Q : hp_St → Prop) : Prop := (((v1 < (4 : Int32)) → (st_C S (st_R S o 41) = 51) ∧ (vp_in v1 (st_L S (st_R S o 41))) ∧ (∀ S3303, S3303 = st_pI S (st_R S o 41) v1.toNatClampNeg (0 : Int32) → K33 (v1 + (1 : Int32)) S3303)) ∧ ((¬ (v1 < (4 : Int32))) → (∀ S3306, S3306 = st_pI S o 39 (0 : Int32) → Q S3306)))
def wl_X7_plain_33 (o : Nat) (v1 : Int32) (S : hp_St) (Q : hp_St → Prop) : Prop := ∃ (I : Int32 → hp_St → Prop) (μ : Int32 → hp_St → Nat), I v1 S ∧ ∀ (v1 : Int32) (S1 : hp_St), hp_mono S S1 → I v1 S1 → wb_X7_plain_33 o v1 S1 (fun v1' S2 => I v1' S2 ∧ μ v1' S2 < μ v1 S1) Q
def wp_X7_plain (o : Nat) (S : hp_St) (Q : hp_St → Prop) : Prop := (st_C S (st_R S o 40) = 50) ∧ (vp_in (4 : Int32) (st_L S (st_R S o 40))) ∧ (∀ S3, S3 = st_pI S (st_R S o 40) (4 : Int32).toNatClampNeg (4 : Int32) → (st_C S3 (st_R S3 o 40) = 50) ∧ (vp_in (5 : Int32) (st_L S3 (st_R S3 o 40))) ∧ (∀ S8, S8 = st_pI S3 (st_R S3 o 40) (5 : Int32).toNatClampNeg (0 : Int32) → (st_C S8 (st_R S8 o 40) = 50) ∧ (vp_in (6 : Int32) (st_L S8 (st_R S8 o 40))) ∧ (∀ S13, S13 = st_pI S8 (st_R S8 o 40) (6 : Int32).toNatClampNeg (20 : Int32) → (st_C S13 (st_R S13 o 40) = 50) ∧ (vp_in (7 : Int32) (st_L S13 (st_R S13 o 40))) ∧ (∀ S18, S18 = st_pI S13 (st_R S13 o 40) (7 : Int32).toNatClampNeg (3 : Int32) → wl_X7_plain_33 o (0 : Int32) S18 Q))))
theorem nf_X7_plain : hp_nf yX7_plain 0 = true := by decide +kernel
set_option maxHeartbeats 4000000 in
theorem m_X7_plain {l : Launch} {B : Nat} {D : va_G} {s0 : State} {b0 : Nat} (G : hp_G l B D s0 b0) (o : Nat) (Si : hp_St) (Q : hp_St → Prop) (hc0 : st_C Si o = 7) (h : wp_X7_plain o Si Q) : hp_M l B D s0 yX7_plain cX7_plain 2 none 2 128 0 0 [hp_v B o] Si (hp_Qv B D s0 (fun S' => hp_mono Si S' ∧ Q S')) := by
  refine hp_start G (by decide +kernel) rfl rfl (lv := [(0, hp_v B o)]) (by simp [lg_sl, hp_vc, hp_ci, hp_cj]) (by simp [lv_args, hp_vc, hp_ci, hp_cj]) ?_
  intro p e s m args below meth c E ls hl hR
  have hm : hp_mono Si Si := hp_mono.rf
  generalize hH : s.heap = H at hR ⊢
  generalize hLo : ([] : List Loc) = locs at hR ⊢
  have b33 : ∀ (v1 : Int32) (S : hp_St) (H : Heap) (locs : List Loc) (ls : Array Slot), wl_X7_plain_33 o v1 S Q → lv_has ls 2 [(0, hp_v B o), (1, .int v1)] → hp_S B D s0 S H locs → hp_mono Si S → W p l e ({ frames := 2, cells := 0, slots := 0, locals := 128 } : Room) s m args below meth c H locs 0 0 (MQ below (hp_Qv B D s0 (fun S' => hp_mono Si S' ∧ Q S')) args s 0 0 (fun q => B < q)) (F0 m 33 ls []) := by
    intro v1 S H locs ls h hl hR hm
    obtain ⟨I33, μ33, hI, hst⟩ := h
    obtain ⟨Sa33, eSa33⟩ : ∃ x, x = S := ⟨_, rfl⟩
    subst eSa33
    have key33 : ∀ (N : Nat) (v1 : Int32) (Su33 : hp_St) (H : Heap) (locs : List Loc) (ls : Array Slot), μ33 v1 Su33 < N → I33 v1 Su33 → lv_has ls 2 [(0, hp_v B o), (1, .int v1)] → hp_S B D s0 Su33 H locs → hp_mono Sa33 Su33 → W p l e ({ frames := 2, cells := 0, slots := 0, locals := 128 } : Room) s m args below meth c H locs 0 0 (MQ below (hp_Qv B D s0 (fun S' => hp_mono Si S' ∧ Q S')) args s 0 0 (fun q => B < q)) (F0 m 33 ls []) := by
      intro N
      induction N with
      | zero =>
        intro v1 Su33 H locs ls hN
        exact absurd hN (Nat.not_lt_zero _)
      | succ N ih33 =>
        intro v1 Su33 H locs ls hN hI hl hR ms33
        have h := hst v1 Su33 ms33 hI
        have hm := hp_mono.tr hm ms33
        obtain ⟨K33, hKe33⟩ : ∃ K : Int32 → hp_St → Prop, K = (fun v1' Sk => I33 v1' Sk ∧ μ33 v1' Sk < μ33 v1 Su33) := ⟨_, rfl⟩
        rw [← hKe33] at h
        have hK33 : ∀ (v1' : Int32) (Sk : hp_St) (H : Heap) (locs : List Loc) (ls : Array Slot), K33 v1' Sk → lv_has ls 2 [(0, hp_v B o), (1, .int (v1'))] → hp_S B D s0 Sk H locs → hp_mono Sa33 Sk → W p l e ({ frames := 2, cells := 0, slots := 0, locals := 128 } : Room) s m args below meth c H locs 0 0 (MQ below (hp_Qv B D s0 (fun S' => hp_mono Si S' ∧ Q S')) args s 0 0 (fun q => B < q)) (F0 m 33 ls []) := by
          intro v1' Sk H locs ls hI hl hR ms
          rw [hKe33] at hI
          exact ih33 v1' Sk H locs ls (Nat.lt_of_lt_of_le hI.2 (Nat.le_of_lt_succ hN)) hI.1 hl hR ms
        unfold wb_X7_plain_33 at h
        refine hp_iload_n E hl 1 rfl 1 rfl dX7_plain_33 (rfl : 33 + 1 = 34) ?_
        refine hp_iconst E (4 : Int32) (by decide) dX7_plain_34 (rfl : 34 + 1 = 35) ?_
        refine hp_icmp_ge E dX7_plain_35 (rfl : 35 + 3 = 38) (tgt := 51) (by decide) (fun hb => ?_) (fun hb => ?_)
        · have h := h.1 hb
          refine hp_aload_n E hl 0 rfl 0 rfl dX7_plain_38 (rfl : 38 + 1 = 39) ?_
          refine hp_getR E hR in_X7 (hp_mono.c hm hc0) rfl 41 (Nat.le_of_ble_eq_true rfl) rfl q1302 (fun _ h => h) dX7_plain_39 (rfl : 39 + 3 = 42) ?_
          refine hp_iload_n E hl 1 rfl 1 rfl dX7_plain_42 (rfl : 42 + 1 = 43) ?_
          refine hp_iconst E (0 : Int32) (by decide) dX7_plain_43 (rfl : 43 + 1 = 44) ?_
          obtain ⟨hc3301, h⟩ := h
          obtain ⟨hi3302, h⟩ := h
          refine hx_zast E hR hc3301 hi3302 (Or.inl rfl) dX7_plain_44 (rfl : 44 + 1 = 45) (fun S3303 H locs e3305 hm3304 hR => ?_)
          have h := h S3303 e3305
          have hm := hp_mono.tr hm hm3304
          have ms33 := hp_mono.tr ms33 hm3304
          refine hp_iinc E hl (v1 + (1 : Int32)) 1 (lv' := [(0, hp_v B o)]) dX7_plain_45 (rfl : 45 + 3 = 48) rfl (by first | rfl | (congr 1)) (by decide) (by simp [hp_vc, hp_ci, hp_cj]) (fun ls hl => ?_)
          refine hp_goto E (tgt := 33) dX7_plain_48 (by decide) ?_
          exact hK33 _ _ _ _ _ h (lv_sub hl [1, 0] rfl) hR ms33
        · have h := h.2 hb
          refine hp_aload_n E hl 0 rfl 0 rfl dX7_plain_51 (rfl : 51 + 1 = 52) ?_
          refine hp_iconst E (0 : Int32) (by decide) dX7_plain_52 (rfl : 52 + 1 = 53) ?_
          refine hx_putI E hR in_X7 tyX7 tyX7_ok nmX7 (hp_mono.c hm hc0) rfl 39 (Nat.le_of_ble_eq_true rfl) rfl q1300 (fun _ h => h) (Or.inl rfl) (Or.inl rfl) dX7_plain_53 (rfl : 53 + 3 = 56) (fun S3306 H locs e3308 hm3307 hR => ?_)
          have h := h S3306 e3308
          have hm := hp_mono.tr hm hm3307
          have ms33 := hp_mono.tr ms33 hm3307
          exact hp_vret E hR ⟨hm, h⟩ (Nat.le_of_ble_eq_true rfl) (Nat.le_of_ble_eq_true rfl) dX7_plain_56
    exact key33 (μ33 v1 Sa33 + 1) v1 _ H locs ls (Nat.lt_succ_self _) hI hl hR hp_mono.rf
  unfold wp_X7_plain at h
  refine hp_aload_n E hl 0 rfl 0 rfl dX7_plain_0 (rfl : 0 + 1 = 1) ?_
  refine hp_getR E hR in_X7 hc0 rfl 40 (Nat.le_of_ble_eq_true rfl) rfl q1301 (fun _ h => h) dX7_plain_1 (rfl : 1 + 3 = 4) ?_
  refine hp_iconst E (4 : Int32) (by decide) dX7_plain_4 (rfl : 4 + 1 = 5) ?_
  refine hp_iconst E (4 : Int32) (by decide) dX7_plain_5 (rfl : 5 + 1 = 6) ?_
  obtain ⟨hc1, h⟩ := h
  obtain ⟨hi2, h⟩ := h
  refine hx_iast E hR hc1 hi2 dX7_plain_6 (rfl : 6 + 1 = 7) (fun S3 H locs e5 hm4 hR => ?_)
  have h := h S3 e5
  have hm := hp_mono.tr hm hm4
  refine hp_aload_n E hl 0 rfl 0 rfl dX7_plain_7 (rfl : 7 + 1 = 8) ?_
  refine hp_getR E hR in_X7 (hp_mono.c hm hc0) rfl 40 (Nat.le_of_ble_eq_true rfl) rfl q1301 (fun _ h => h) dX7_plain_8 (rfl : 8 + 3 = 11) ?_
  refine hp_iconst E (5 : Int32) (by decide) dX7_plain_11 (rfl : 11 + 1 = 12) ?_
  refine hp_iconst E (0 : Int32) (by decide) dX7_plain_12 (rfl : 12 + 1 = 13) ?_
  obtain ⟨hc6, h⟩ := h
  obtain ⟨hi7, h⟩ := h
  refine hx_iast E hR hc6 hi7 dX7_plain_13 (rfl : 13 + 1 = 14) (fun S8 H locs e10 hm9 hR => ?_)
  have h := h S8 e10
  have hm := hp_mono.tr hm hm9
  refine hp_aload_n E hl 0 rfl 0 rfl dX7_plain_14 (rfl : 14 + 1 = 15) ?_
  refine hp_getR E hR in_X7 (hp_mono.c hm hc0) rfl 40 (Nat.le_of_ble_eq_true rfl) rfl q1301 (fun _ h => h) dX7_plain_15 (rfl : 15 + 3 = 18) ?_
  refine hp_bipush E (6 : Int32) (by decide) dX7_plain_18 (rfl : 18 + 2 = 20) ?_
  refine hp_bipush E (20 : Int32) (by decide) dX7_plain_20 (rfl : 20 + 2 = 22) ?_
  obtain ⟨hc11, h⟩ := h
  obtain ⟨hi12, h⟩ := h
  refine hx_iast E hR hc11 hi12 dX7_plain_22 (rfl : 22 + 1 = 23) (fun S13 H locs e15 hm14 hR => ?_)
  have h := h S13 e15
  have hm := hp_mono.tr hm hm14
  refine hp_aload_n E hl 0 rfl 0 rfl dX7_plain_23 (rfl : 23 + 1 = 24) ?_
  refine hp_getR E hR in_X7 (hp_mono.c hm hc0) rfl 40 (Nat.le_of_ble_eq_true rfl) rfl q1301 (fun _ h => h) dX7_plain_24 (rfl : 24 + 3 = 27) ?_
  refine hp_bipush E (7 : Int32) (by decide) dX7_plain_27 (rfl : 27 + 2 = 29) ?_
  refine hp_iconst E (3 : Int32) (by decide) dX7_plain_29 (rfl : 29 + 1 = 30) ?_
  obtain ⟨hc16, h⟩ := h
  obtain ⟨hi17, h⟩ := h
  refine hx_iast E hR hc16 hi17 dX7_plain_30 (rfl : 30 + 1 = 31) (fun S18 H locs e20 hm19 hR => ?_)
  have h := h S18 e20
  have hm := hp_mono.tr hm hm19
  refine hp_iconst E (0 : Int32) (by decide) dX7_plain_31 (rfl : 31 + 1 = 32) ?_
  refine hp_istore_n E hl 1 rfl (lv' := [(0, hp_v B o)]) dX7_plain_32 (rfl : 32 + 1 = 33) (by decide) (by simp [hp_vc, hp_ci, hp_cj]) (fun ls hl => ?_)
  exact b33 _ _ _ _ _ h (lv_sub hl [1, 0] rfl) hR hm
def wb_X7_keep_37 (o : Nat) (v1 : Int32) (S : hp_St) (K37 : Int32 → hp_St → Prop) (Q : hp_St → Prop) : Prop := (((v1 < (st_I S o 38)) → (st_C S (st_R S o 30) = 50) ∧ (vp_in ((24 : Int32) + v1) (st_L S (st_R S o 30))) ∧ (vp_in v1 (st_L S (st_R S o 30))) ∧ (∀ S3704, S3704 = st_pI S (st_R S o 30) v1.toNatClampNeg (st_I S (st_R S o 30) ((24 : Int32) + v1).toNatClampNeg) → (st_C S3704 (st_R S3704 o 31) = 50) ∧ (vp_in ((24 : Int32) + v1) (st_L S3704 (st_R S3704 o 31))) ∧ (vp_in v1 (st_L S3704 (st_R S3704 o 31))) ∧ (∀ S3710, S3710 = st_pI S3704 (st_R S3704 o 31) v1.toNatClampNeg (st_I S3704 (st_R S3704 o 31) ((24 : Int32) + v1).toNatClampNeg) → (st_C S3710 (st_R S3710 o 32) = 50) ∧ (vp_in ((24 : Int32) + v1) (st_L S3710 (st_R S3710 o 32))) ∧ (vp_in v1 (st_L S3710 (st_R S3710 o 32))) ∧ (∀ S3716, S3716 = st_pI S3710 (st_R S3710 o 32) v1.toNatClampNeg (st_I S3710 (st_R S3710 o 32) ((24 : Int32) + v1).toNatClampNeg) → (st_C S3716 (st_R S3716 o 33) = 50) ∧ (vp_in ((24 : Int32) + v1) (st_L S3716 (st_R S3716 o 33))) ∧ (vp_in v1 (st_L S3716 (st_R S3716 o 33))) ∧ (∀ S3722, S3722 = st_pI S3716 (st_R S3716 o 33) v1.toNatClampNeg (st_I S3716 (st_R S3716 o 33) ((24 : Int32) + v1).toNatClampNeg) → (st_C S3722 (st_R S3722 o 34) = 50) ∧ (vp_in ((24 : Int32) + v1) (st_L S3722 (st_R S3722 o 34))) ∧ (vp_in v1 (st_L S3722 (st_R S3722 o 34))) ∧ (∀ S3728, S3728 = st_pI S3722 (st_R S3722 o 34) v1.toNatClampNeg (st_I S3722 (st_R S3722 o 34) ((24 : Int32) + v1).toNatClampNeg) → (st_C S3728 (st_R S3728 o 35) = 50) ∧ (vp_in ((24 : Int32) + v1) (st_L S3728 (st_R S3728 o 35))) ∧ (vp_in v1 (st_L S3728 (st_R S3728 o 35))) ∧ (∀ S3734, S3734 = st_pI S3728 (st_R S3728 o 35) v1.toNatClampNeg (st_I S3728 (st_R S3728 o 35) ((24 : Int32) + v1).toNatClampNeg) → (st_C S3734 (st_R S3734 o 36) = 50) ∧ (vp_in ((24 : Int32) + v1) (st_L S3734 (st_R S3734 o 36))) ∧ (vp_in v1 (st_L S3734 (st_R S3734 o 36))) ∧ (∀ S3740, S3740 = st_pI S3734 (st_R S3734 o 36) v1.toNatClampNeg (st_I S3734 (st_R S3734 o 36) ((24 : Int32) + v1).toNatClampNeg) → (st_C S3740 (st_R S3740 o 37) = 50) ∧ (vp_in ((24 : Int32) + v1) (st_L S3740 (st_R S3740 o 37))) ∧ (vp_in v1 (st_L S3740 (st_R S3740 o 37))) ∧ (∀ S3746, S3746 = st_pI S3740 (st_R S3740 o 37) v1.toNatClampNeg (st_I S3740 (st_R S3740 o 37) ((24 : Int32) + v1).toNatClampNeg) → K37 (v1 + (1 : Int32)) S3746))))))))) ∧ ((¬ (v1 < (st_I S o 38))) → Q S))
def wl_X7_keep_37 (o : Nat) (v1 : Int32) (S : hp_St) (Q : hp_St → Prop) : Prop := ∃ (I : Int32 → hp_St → Prop) (μ : Int32 → hp_St → Nat), I v1 S ∧ ∀ (v1 : Int32) (S1 : hp_St), hp_mono S S1 → I v1 S1 → wb_X7_keep_37 o v1 S1 (fun v1' S2 => I v1' S2 ∧ μ v1' S2 < μ v1 S1) Q
def wb_X7_keep_2 (o : Nat) (v1 : Int32) (S : hp_St) (K2 : Int32 → hp_St → Prop) (Q : hp_St → Prop) : Prop := (((v1 < (4 : Int32)) → (st_C S (st_R S o 40) = 50) ∧ (vp_in ((4 : Int32) + v1) (st_L S (st_R S o 40))) ∧ (vp_in v1 (st_L S (st_R S o 40))) ∧ (∀ S204, S204 = st_pI S (st_R S o 40) v1.toNatClampNeg (st_I S (st_R S o 40) ((4 : Int32) + v1).toNatClampNeg) → K2 (v1 + (1 : Int32)) S204)) ∧ ((¬ (v1 < (4 : Int32))) → (∀ S207, S207 = st_pI S o 38 (st_I S o 39) → wl_X7_keep_37 o (0 : Int32) S207 Q)))
def wl_X7_keep_2 (o : Nat) (v1 : Int32) (S : hp_St) (Q : hp_St → Prop) : Prop := ∃ (I : Int32 → hp_St → Prop) (μ : Int32 → hp_St → Nat), I v1 S ∧ ∀ (v1 : Int32) (S1 : hp_St), hp_mono S S1 → I v1 S1 → wb_X7_keep_2 o v1 S1 (fun v1' S2 => I v1' S2 ∧ μ v1' S2 < μ v1 S1) Q
def wp_X7_keep (o : Nat) (S : hp_St) (Q : hp_St → Prop) : Prop := wl_X7_keep_2 o (0 : Int32) S Q
theorem nf_X7_keep : hp_nf yX7_keep 0 = true := by decide +kernel
set_option maxHeartbeats 4000000 in
theorem m_X7_keep {l : Launch} {B : Nat} {D : va_G} {s0 : State} {b0 : Nat} (G : hp_G l B D s0 b0) (o : Nat) (Si : hp_St) (Q : hp_St → Prop) (hc0 : st_C Si o = 7) (h : wp_X7_keep o Si Q) : hp_M l B D s0 yX7_keep cX7_keep 2 none 2 128 0 0 [hp_v B o] Si (hp_Qv B D s0 (fun S' => hp_mono Si S' ∧ Q S')) := by
  refine hp_start G (by decide +kernel) rfl rfl (lv := [(0, hp_v B o)]) (by simp [lg_sl, hp_vc, hp_ci, hp_cj]) (by simp [lv_args, hp_vc, hp_ci, hp_cj]) ?_
  intro p e s m args below meth c E ls hl hR
  have hm : hp_mono Si Si := hp_mono.rf
  generalize hH : s.heap = H at hR ⊢
  generalize hLo : ([] : List Loc) = locs at hR ⊢
  have b37 : ∀ (v1 : Int32) (S : hp_St) (H : Heap) (locs : List Loc) (ls : Array Slot), wl_X7_keep_37 o v1 S Q → lv_has ls 2 [(0, hp_v B o), (1, .int v1)] → hp_S B D s0 S H locs → hp_mono Si S → W p l e ({ frames := 2, cells := 0, slots := 0, locals := 128 } : Room) s m args below meth c H locs 0 0 (MQ below (hp_Qv B D s0 (fun S' => hp_mono Si S' ∧ Q S')) args s 0 0 (fun q => B < q)) (F0 m 37 ls []) := by
    intro v1 S H locs ls h hl hR hm
    obtain ⟨I37, μ37, hI, hst⟩ := h
    obtain ⟨Sa37, eSa37⟩ : ∃ x, x = S := ⟨_, rfl⟩
    subst eSa37
    have key37 : ∀ (N : Nat) (v1 : Int32) (Su37 : hp_St) (H : Heap) (locs : List Loc) (ls : Array Slot), μ37 v1 Su37 < N → I37 v1 Su37 → lv_has ls 2 [(0, hp_v B o), (1, .int v1)] → hp_S B D s0 Su37 H locs → hp_mono Sa37 Su37 → W p l e ({ frames := 2, cells := 0, slots := 0, locals := 128 } : Room) s m args below meth c H locs 0 0 (MQ below (hp_Qv B D s0 (fun S' => hp_mono Si S' ∧ Q S')) args s 0 0 (fun q => B < q)) (F0 m 37 ls []) := by
      intro N
      induction N with
      | zero =>
        intro v1 Su37 H locs ls hN
        exact absurd hN (Nat.not_lt_zero _)
      | succ N ih37 =>
        intro v1 Su37 H locs ls hN hI hl hR ms37
        have h := hst v1 Su37 ms37 hI
        have hm := hp_mono.tr hm ms37
        obtain ⟨K37, hKe37⟩ : ∃ K : Int32 → hp_St → Prop, K = (fun v1' Sk => I37 v1' Sk ∧ μ37 v1' Sk < μ37 v1 Su37) := ⟨_, rfl⟩
        rw [← hKe37] at h
        have hK37 : ∀ (v1' : Int32) (Sk : hp_St) (H : Heap) (locs : List Loc) (ls : Array Slot), K37 v1' Sk → lv_has ls 2 [(0, hp_v B o), (1, .int (v1'))] → hp_S B D s0 Sk H locs → hp_mono Sa37 Sk → W p l e ({ frames := 2, cells := 0, slots := 0, locals := 128 } : Room) s m args below meth c H locs 0 0 (MQ below (hp_Qv B D s0 (fun S' => hp_mono Si S' ∧ Q S')) args s 0 0 (fun q => B < q)) (F0 m 37 ls []) := by
          intro v1' Sk H locs ls hI hl hR ms
          rw [hKe37] at hI
          exact ih37 v1' Sk H locs ls (Nat.lt_of_lt_of_le hI.2 (Nat.le_of_lt_succ hN)) hI.1 hl hR ms
        unfold wb_X7_keep_37 at h
        refine hp_iload_n E hl 1 rfl 1 rfl dX7_keep_37 (rfl : 37 + 1 = 38) ?_
        refine hp_aload_n E hl 0 rfl 0 rfl dX7_keep_38 (rfl : 38 + 1 = 39) ?_
        refine hp_getI E hR in_X7 (hp_mono.c hm hc0) rfl 38 (Nat.le_of_ble_eq_true rfl) rfl q1299 (fun _ h => h) dX7_keep_39 (rfl : 39 + 3 = 42) ?_
        refine hp_icmp_ge E dX7_keep_42 (rfl : 42 + 3 = 45) (tgt := 171) (by decide) (fun hb => ?_) (fun hb => ?_)
        · have h := h.1 hb
          refine hp_aload_n E hl 0 rfl 0 rfl dX7_keep_45 (rfl : 45 + 1 = 46) ?_
          refine hp_getR E hR in_X7 (hp_mono.c hm hc0) rfl 30 (Nat.le_of_ble_eq_true rfl) rfl q1291 (fun _ h => h) dX7_keep_46 (rfl : 46 + 3 = 49) ?_
          refine hp_iload_n E hl 1 rfl 1 rfl dX7_keep_49 (rfl : 49 + 1 = 50) ?_
          refine hp_aload_n E hl 0 rfl 0 rfl dX7_keep_50 (rfl : 50 + 1 = 51) ?_
          refine hp_getR E hR in_X7 (hp_mono.c hm hc0) rfl 30 (Nat.le_of_ble_eq_true rfl) rfl q1291 (fun _ h => h) dX7_keep_51 (rfl : 51 + 3 = 54) ?_
          refine hp_bipush E (24 : Int32) (by decide) dX7_keep_54 (rfl : 54 + 2 = 56) ?_
          refine hp_iload_n E hl 1 rfl 1 rfl dX7_keep_56 (rfl : 56 + 1 = 57) ?_
          refine hp_iadd E dX7_keep_57 (rfl : 57 + 1 = 58) ?_
          obtain ⟨hc3701, h⟩ := h
          obtain ⟨hi3702, h⟩ := h
          refine hp_iald E hR hc3701 hi3702 dX7_keep_58 (rfl : 58 + 1 = 59) ?_
          obtain ⟨hi3703, h⟩ := h
          refine hx_iast E hR hc3701 hi3703 dX7_keep_59 (rfl : 59 + 1 = 60) (fun S3704 H locs e3706 hm3705 hR => ?_)
          have h := h S3704 e3706
          have hm := hp_mono.tr hm hm3705
          have ms37 := hp_mono.tr ms37 hm3705
          refine hp_aload_n E hl 0 rfl 0 rfl dX7_keep_60 (rfl : 60 + 1 = 61) ?_
          refine hp_getR E hR in_X7 (hp_mono.c hm hc0) rfl 31 (Nat.le_of_ble_eq_true rfl) rfl q1292 (fun _ h => h) dX7_keep_61 (rfl : 61 + 3 = 64) ?_
          refine hp_iload_n E hl 1 rfl 1 rfl dX7_keep_64 (rfl : 64 + 1 = 65) ?_
          refine hp_aload_n E hl 0 rfl 0 rfl dX7_keep_65 (rfl : 65 + 1 = 66) ?_
          refine hp_getR E hR in_X7 (hp_mono.c hm hc0) rfl 31 (Nat.le_of_ble_eq_true rfl) rfl q1292 (fun _ h => h) dX7_keep_66 (rfl : 66 + 3 = 69) ?_
          refine hp_bipush E (24 : Int32) (by decide) dX7_keep_69 (rfl : 69 + 2 = 71) ?_
          refine hp_iload_n E hl 1 rfl 1 rfl dX7_keep_71 (rfl : 71 + 1 = 72) ?_
          refine hp_iadd E dX7_keep_72 (rfl : 72 + 1 = 73) ?_
          obtain ⟨hc3707, h⟩ := h
          obtain ⟨hi3708, h⟩ := h
          refine hp_iald E hR hc3707 hi3708 dX7_keep_73 (rfl : 73 + 1 = 74) ?_
          obtain ⟨hi3709, h⟩ := h
          refine hx_iast E hR hc3707 hi3709 dX7_keep_74 (rfl : 74 + 1 = 75) (fun S3710 H locs e3712 hm3711 hR => ?_)
          have h := h S3710 e3712
          have hm := hp_mono.tr hm hm3711
          have ms37 := hp_mono.tr ms37 hm3711
          refine hp_aload_n E hl 0 rfl 0 rfl dX7_keep_75 (rfl : 75 + 1 = 76) ?_
          refine hp_getR E hR in_X7 (hp_mono.c hm hc0) rfl 32 (Nat.le_of_ble_eq_true rfl) rfl q1293 (fun _ h => h) dX7_keep_76 (rfl : 76 + 3 = 79) ?_
          refine hp_iload_n E hl 1 rfl 1 rfl dX7_keep_79 (rfl : 79 + 1 = 80) ?_
          refine hp_aload_n E hl 0 rfl 0 rfl dX7_keep_80 (rfl : 80 + 1 = 81) ?_
          refine hp_getR E hR in_X7 (hp_mono.c hm hc0) rfl 32 (Nat.le_of_ble_eq_true rfl) rfl q1293 (fun _ h => h) dX7_keep_81 (rfl : 81 + 3 = 84) ?_
          refine hp_bipush E (24 : Int32) (by decide) dX7_keep_84 (rfl : 84 + 2 = 86) ?_
          refine hp_iload_n E hl 1 rfl 1 rfl dX7_keep_86 (rfl : 86 + 1 = 87) ?_
          refine hp_iadd E dX7_keep_87 (rfl : 87 + 1 = 88) ?_
          obtain ⟨hc3713, h⟩ := h
          obtain ⟨hi3714, h⟩ := h
          refine hp_iald E hR hc3713 hi3714 dX7_keep_88 (rfl : 88 + 1 = 89) ?_
          obtain ⟨hi3715, h⟩ := h
          refine hx_iast E hR hc3713 hi3715 dX7_keep_89 (rfl : 89 + 1 = 90) (fun S3716 H locs e3718 hm3717 hR => ?_)
          have h := h S3716 e3718
          have hm := hp_mono.tr hm hm3717
          have ms37 := hp_mono.tr ms37 hm3717
          refine hp_aload_n E hl 0 rfl 0 rfl dX7_keep_90 (rfl : 90 + 1 = 91) ?_
          refine hp_getR E hR in_X7 (hp_mono.c hm hc0) rfl 33 (Nat.le_of_ble_eq_true rfl) rfl q1294 (fun _ h => h) dX7_keep_91 (rfl : 91 + 3 = 94) ?_
          refine hp_iload_n E hl 1 rfl 1 rfl dX7_keep_94 (rfl : 94 + 1 = 95) ?_
          refine hp_aload_n E hl 0 rfl 0 rfl dX7_keep_95 (rfl : 95 + 1 = 96) ?_
          refine hp_getR E hR in_X7 (hp_mono.c hm hc0) rfl 33 (Nat.le_of_ble_eq_true rfl) rfl q1294 (fun _ h => h) dX7_keep_96 (rfl : 96 + 3 = 99) ?_
          refine hp_bipush E (24 : Int32) (by decide) dX7_keep_99 (rfl : 99 + 2 = 101) ?_
          refine hp_iload_n E hl 1 rfl 1 rfl dX7_keep_101 (rfl : 101 + 1 = 102) ?_
          refine hp_iadd E dX7_keep_102 (rfl : 102 + 1 = 103) ?_
          obtain ⟨hc3719, h⟩ := h
          obtain ⟨hi3720, h⟩ := h
          refine hp_iald E hR hc3719 hi3720 dX7_keep_103 (rfl : 103 + 1 = 104) ?_
          obtain ⟨hi3721, h⟩ := h
          refine hx_iast E hR hc3719 hi3721 dX7_keep_104 (rfl : 104 + 1 = 105) (fun S3722 H locs e3724 hm3723 hR => ?_)
          have h := h S3722 e3724
          have hm := hp_mono.tr hm hm3723
          have ms37 := hp_mono.tr ms37 hm3723
          refine hp_aload_n E hl 0 rfl 0 rfl dX7_keep_105 (rfl : 105 + 1 = 106) ?_
          refine hp_getR E hR in_X7 (hp_mono.c hm hc0) rfl 34 (Nat.le_of_ble_eq_true rfl) rfl q1295 (fun _ h => h) dX7_keep_106 (rfl : 106 + 3 = 109) ?_
          refine hp_iload_n E hl 1 rfl 1 rfl dX7_keep_109 (rfl : 109 + 1 = 110) ?_
          refine hp_aload_n E hl 0 rfl 0 rfl dX7_keep_110 (rfl : 110 + 1 = 111) ?_
          refine hp_getR E hR in_X7 (hp_mono.c hm hc0) rfl 34 (Nat.le_of_ble_eq_true rfl) rfl q1295 (fun _ h => h) dX7_keep_111 (rfl : 111 + 3 = 114) ?_
          refine hp_bipush E (24 : Int32) (by decide) dX7_keep_114 (rfl : 114 + 2 = 116) ?_
          refine hp_iload_n E hl 1 rfl 1 rfl dX7_keep_116 (rfl : 116 + 1 = 117) ?_
          refine hp_iadd E dX7_keep_117 (rfl : 117 + 1 = 118) ?_
          obtain ⟨hc3725, h⟩ := h
          obtain ⟨hi3726, h⟩ := h
          refine hp_iald E hR hc3725 hi3726 dX7_keep_118 (rfl : 118 + 1 = 119) ?_
          obtain ⟨hi3727, h⟩ := h
          refine hx_iast E hR hc3725 hi3727 dX7_keep_119 (rfl : 119 + 1 = 120) (fun S3728 H locs e3730 hm3729 hR => ?_)
          have h := h S3728 e3730
          have hm := hp_mono.tr hm hm3729
          have ms37 := hp_mono.tr ms37 hm3729
          refine hp_aload_n E hl 0 rfl 0 rfl dX7_keep_120 (rfl : 120 + 1 = 121) ?_
          refine hp_getR E hR in_X7 (hp_mono.c hm hc0) rfl 35 (Nat.le_of_ble_eq_true rfl) rfl q1296 (fun _ h => h) dX7_keep_121 (rfl : 121 + 3 = 124) ?_
          refine hp_iload_n E hl 1 rfl 1 rfl dX7_keep_124 (rfl : 124 + 1 = 125) ?_
          refine hp_aload_n E hl 0 rfl 0 rfl dX7_keep_125 (rfl : 125 + 1 = 126) ?_
          refine hp_getR E hR in_X7 (hp_mono.c hm hc0) rfl 35 (Nat.le_of_ble_eq_true rfl) rfl q1296 (fun _ h => h) dX7_keep_126 (rfl : 126 + 3 = 129) ?_
          refine hp_bipush E (24 : Int32) (by decide) dX7_keep_129 (rfl : 129 + 2 = 131) ?_
          refine hp_iload_n E hl 1 rfl 1 rfl dX7_keep_131 (rfl : 131 + 1 = 132) ?_
          refine hp_iadd E dX7_keep_132 (rfl : 132 + 1 = 133) ?_
          obtain ⟨hc3731, h⟩ := h
          obtain ⟨hi3732, h⟩ := h
          refine hp_iald E hR hc3731 hi3732 dX7_keep_133 (rfl : 133 + 1 = 134) ?_
          obtain ⟨hi3733, h⟩ := h
          refine hx_iast E hR hc3731 hi3733 dX7_keep_134 (rfl : 134 + 1 = 135) (fun S3734 H locs e3736 hm3735 hR => ?_)
          have h := h S3734 e3736
          have hm := hp_mono.tr hm hm3735
          have ms37 := hp_mono.tr ms37 hm3735
          refine hp_aload_n E hl 0 rfl 0 rfl dX7_keep_135 (rfl : 135 + 1 = 136) ?_
          refine hp_getR E hR in_X7 (hp_mono.c hm hc0) rfl 36 (Nat.le_of_ble_eq_true rfl) rfl q1297 (fun _ h => h) dX7_keep_136 (rfl : 136 + 3 = 139) ?_
          refine hp_iload_n E hl 1 rfl 1 rfl dX7_keep_139 (rfl : 139 + 1 = 140) ?_
          refine hp_aload_n E hl 0 rfl 0 rfl dX7_keep_140 (rfl : 140 + 1 = 141) ?_
          refine hp_getR E hR in_X7 (hp_mono.c hm hc0) rfl 36 (Nat.le_of_ble_eq_true rfl) rfl q1297 (fun _ h => h) dX7_keep_141 (rfl : 141 + 3 = 144) ?_
          refine hp_bipush E (24 : Int32) (by decide) dX7_keep_144 (rfl : 144 + 2 = 146) ?_
          refine hp_iload_n E hl 1 rfl 1 rfl dX7_keep_146 (rfl : 146 + 1 = 147) ?_
          refine hp_iadd E dX7_keep_147 (rfl : 147 + 1 = 148) ?_
          obtain ⟨hc3737, h⟩ := h
          obtain ⟨hi3738, h⟩ := h
          refine hp_iald E hR hc3737 hi3738 dX7_keep_148 (rfl : 148 + 1 = 149) ?_
          obtain ⟨hi3739, h⟩ := h
          refine hx_iast E hR hc3737 hi3739 dX7_keep_149 (rfl : 149 + 1 = 150) (fun S3740 H locs e3742 hm3741 hR => ?_)
          have h := h S3740 e3742
          have hm := hp_mono.tr hm hm3741
          have ms37 := hp_mono.tr ms37 hm3741
          refine hp_aload_n E hl 0 rfl 0 rfl dX7_keep_150 (rfl : 150 + 1 = 151) ?_
          refine hp_getR E hR in_X7 (hp_mono.c hm hc0) rfl 37 (Nat.le_of_ble_eq_true rfl) rfl q1298 (fun _ h => h) dX7_keep_151 (rfl : 151 + 3 = 154) ?_
          refine hp_iload_n E hl 1 rfl 1 rfl dX7_keep_154 (rfl : 154 + 1 = 155) ?_
          refine hp_aload_n E hl 0 rfl 0 rfl dX7_keep_155 (rfl : 155 + 1 = 156) ?_
          refine hp_getR E hR in_X7 (hp_mono.c hm hc0) rfl 37 (Nat.le_of_ble_eq_true rfl) rfl q1298 (fun _ h => h) dX7_keep_156 (rfl : 156 + 3 = 159) ?_
          refine hp_bipush E (24 : Int32) (by decide) dX7_keep_159 (rfl : 159 + 2 = 161) ?_
          refine hp_iload_n E hl 1 rfl 1 rfl dX7_keep_161 (rfl : 161 + 1 = 162) ?_
          refine hp_iadd E dX7_keep_162 (rfl : 162 + 1 = 163) ?_
          obtain ⟨hc3743, h⟩ := h
          obtain ⟨hi3744, h⟩ := h
          refine hp_iald E hR hc3743 hi3744 dX7_keep_163 (rfl : 163 + 1 = 164) ?_
          obtain ⟨hi3745, h⟩ := h
          refine hx_iast E hR hc3743 hi3745 dX7_keep_164 (rfl : 164 + 1 = 165) (fun S3746 H locs e3748 hm3747 hR => ?_)
          have h := h S3746 e3748
          have hm := hp_mono.tr hm hm3747
          have ms37 := hp_mono.tr ms37 hm3747
          refine hp_iinc E hl (v1 + (1 : Int32)) 1 (lv' := [(0, hp_v B o)]) dX7_keep_165 (rfl : 165 + 3 = 168) rfl (by first | rfl | (congr 1)) (by decide) (by simp [hp_vc, hp_ci, hp_cj]) (fun ls hl => ?_)
          refine hp_goto E (tgt := 37) dX7_keep_168 (by decide) ?_
          exact hK37 _ _ _ _ _ h (lv_sub hl [1, 0] rfl) hR ms37
        · have h := h.2 hb
          exact hp_vret E hR ⟨hm, h⟩ (Nat.le_of_ble_eq_true rfl) (Nat.le_of_ble_eq_true rfl) dX7_keep_171
    exact key37 (μ37 v1 Sa37 + 1) v1 _ H locs ls (Nat.lt_succ_self _) hI hl hR hp_mono.rf
  have b2 : ∀ (v1 : Int32) (S : hp_St) (H : Heap) (locs : List Loc) (ls : Array Slot), wl_X7_keep_2 o v1 S Q → lv_has ls 2 [(0, hp_v B o), (1, .int v1)] → hp_S B D s0 S H locs → hp_mono Si S → W p l e ({ frames := 2, cells := 0, slots := 0, locals := 128 } : Room) s m args below meth c H locs 0 0 (MQ below (hp_Qv B D s0 (fun S' => hp_mono Si S' ∧ Q S')) args s 0 0 (fun q => B < q)) (F0 m 2 ls []) := by
    intro v1 S H locs ls h hl hR hm
    obtain ⟨I2, μ2, hI, hst⟩ := h
    obtain ⟨Sa2, eSa2⟩ : ∃ x, x = S := ⟨_, rfl⟩
    subst eSa2
    have key2 : ∀ (N : Nat) (v1 : Int32) (Su2 : hp_St) (H : Heap) (locs : List Loc) (ls : Array Slot), μ2 v1 Su2 < N → I2 v1 Su2 → lv_has ls 2 [(0, hp_v B o), (1, .int v1)] → hp_S B D s0 Su2 H locs → hp_mono Sa2 Su2 → W p l e ({ frames := 2, cells := 0, slots := 0, locals := 128 } : Room) s m args below meth c H locs 0 0 (MQ below (hp_Qv B D s0 (fun S' => hp_mono Si S' ∧ Q S')) args s 0 0 (fun q => B < q)) (F0 m 2 ls []) := by
      intro N
      induction N with
      | zero =>
        intro v1 Su2 H locs ls hN
        exact absurd hN (Nat.not_lt_zero _)
      | succ N ih2 =>
        intro v1 Su2 H locs ls hN hI hl hR ms2
        have h := hst v1 Su2 ms2 hI
        have hm := hp_mono.tr hm ms2
        obtain ⟨K2, hKe2⟩ : ∃ K : Int32 → hp_St → Prop, K = (fun v1' Sk => I2 v1' Sk ∧ μ2 v1' Sk < μ2 v1 Su2) := ⟨_, rfl⟩
        rw [← hKe2] at h
        have hK2 : ∀ (v1' : Int32) (Sk : hp_St) (H : Heap) (locs : List Loc) (ls : Array Slot), K2 v1' Sk → lv_has ls 2 [(0, hp_v B o), (1, .int (v1'))] → hp_S B D s0 Sk H locs → hp_mono Sa2 Sk → W p l e ({ frames := 2, cells := 0, slots := 0, locals := 128 } : Room) s m args below meth c H locs 0 0 (MQ below (hp_Qv B D s0 (fun S' => hp_mono Si S' ∧ Q S')) args s 0 0 (fun q => B < q)) (F0 m 2 ls []) := by
          intro v1' Sk H locs ls hI hl hR ms
          rw [hKe2] at hI
          exact ih2 v1' Sk H locs ls (Nat.lt_of_lt_of_le hI.2 (Nat.le_of_lt_succ hN)) hI.1 hl hR ms
        unfold wb_X7_keep_2 at h
        refine hp_iload_n E hl 1 rfl 1 rfl dX7_keep_2 (rfl : 2 + 1 = 3) ?_
        refine hp_iconst E (4 : Int32) (by decide) dX7_keep_3 (rfl : 3 + 1 = 4) ?_
        refine hp_icmp_ge E dX7_keep_4 (rfl : 4 + 3 = 7) (tgt := 27) (by decide) (fun hb => ?_) (fun hb => ?_)
        · have h := h.1 hb
          refine hp_aload_n E hl 0 rfl 0 rfl dX7_keep_7 (rfl : 7 + 1 = 8) ?_
          refine hp_getR E hR in_X7 (hp_mono.c hm hc0) rfl 40 (Nat.le_of_ble_eq_true rfl) rfl q1301 (fun _ h => h) dX7_keep_8 (rfl : 8 + 3 = 11) ?_
          refine hp_iload_n E hl 1 rfl 1 rfl dX7_keep_11 (rfl : 11 + 1 = 12) ?_
          refine hp_aload_n E hl 0 rfl 0 rfl dX7_keep_12 (rfl : 12 + 1 = 13) ?_
          refine hp_getR E hR in_X7 (hp_mono.c hm hc0) rfl 40 (Nat.le_of_ble_eq_true rfl) rfl q1301 (fun _ h => h) dX7_keep_13 (rfl : 13 + 3 = 16) ?_
          refine hp_iconst E (4 : Int32) (by decide) dX7_keep_16 (rfl : 16 + 1 = 17) ?_
          refine hp_iload_n E hl 1 rfl 1 rfl dX7_keep_17 (rfl : 17 + 1 = 18) ?_
          refine hp_iadd E dX7_keep_18 (rfl : 18 + 1 = 19) ?_
          obtain ⟨hc201, h⟩ := h
          obtain ⟨hi202, h⟩ := h
          refine hp_iald E hR hc201 hi202 dX7_keep_19 (rfl : 19 + 1 = 20) ?_
          obtain ⟨hi203, h⟩ := h
          refine hx_iast E hR hc201 hi203 dX7_keep_20 (rfl : 20 + 1 = 21) (fun S204 H locs e206 hm205 hR => ?_)
          have h := h S204 e206
          have hm := hp_mono.tr hm hm205
          have ms2 := hp_mono.tr ms2 hm205
          refine hp_iinc E hl (v1 + (1 : Int32)) 1 (lv' := [(0, hp_v B o)]) dX7_keep_21 (rfl : 21 + 3 = 24) rfl (by first | rfl | (congr 1)) (by decide) (by simp [hp_vc, hp_ci, hp_cj]) (fun ls hl => ?_)
          refine hp_goto E (tgt := 2) dX7_keep_24 (by decide) ?_
          exact hK2 _ _ _ _ _ h (lv_sub hl [1, 0] rfl) hR ms2
        · have h := h.2 hb
          refine hp_aload_n E hl 0 rfl 0 rfl dX7_keep_27 (rfl : 27 + 1 = 28) ?_
          refine hp_aload_n E hl 0 rfl 0 rfl dX7_keep_28 (rfl : 28 + 1 = 29) ?_
          refine hp_getI E hR in_X7 (hp_mono.c hm hc0) rfl 39 (Nat.le_of_ble_eq_true rfl) rfl q1300 (fun _ h => h) dX7_keep_29 (rfl : 29 + 3 = 32) ?_
          refine hx_putI E hR in_X7 tyX7 tyX7_ok nmX7 (hp_mono.c hm hc0) rfl 38 (Nat.le_of_ble_eq_true rfl) rfl q1299 (fun _ h => h) (Or.inl rfl) (Or.inl rfl) dX7_keep_32 (rfl : 32 + 3 = 35) (fun S207 H locs e209 hm208 hR => ?_)
          have h := h S207 e209
          have hm := hp_mono.tr hm hm208
          have ms2 := hp_mono.tr ms2 hm208
          refine hp_iconst E (0 : Int32) (by decide) dX7_keep_35 (rfl : 35 + 1 = 36) ?_
          refine hp_istore_n E hl 1 rfl (lv' := [(0, hp_v B o)]) dX7_keep_36 (rfl : 36 + 1 = 37) (by decide) (by simp [hp_vc, hp_ci, hp_cj]) (fun ls hl => ?_)
          exact b37 _ _ _ _ _ h (lv_sub hl [1, 0] rfl) hR hm
    exact key2 (μ2 v1 Sa2 + 1) v1 _ H locs ls (Nat.lt_succ_self _) hI hl hR hp_mono.rf
  unfold wp_X7_keep at h
  refine hp_iconst E (0 : Int32) (by decide) dX7_keep_0 (rfl : 0 + 1 = 1) ?_
  refine hp_istore_n E hl 1 rfl (lv' := [(0, hp_v B o)]) dX7_keep_1 (rfl : 1 + 1 = 2) (by decide) (by simp [hp_vc, hp_ci, hp_cj]) (fun ls hl => ?_)
  exact b2 _ _ _ _ _ h (lv_sub hl [1, 0] rfl) hR hm
def wb_X7_init_745 (o : Nat) (v1 : Int32) (S : hp_St) (K745 : Int32 → hp_St → Prop) (Q : hp_St → Prop) : Prop := (((v1 < (40 : Int32)) → (st_C S (st_R S o 21) = 50) ∧ (vp_in v1 (st_L S (st_R S o 21))) ∧ (∀ S74503, S74503 = st_pI S (st_R S o 21) v1.toNatClampNeg (900 : Int32) → K745 (v1 + (1 : Int32)) S74503)) ∧ ((¬ (v1 < (40 : Int32))) → wp_X7_plain o S (fun S74506 => hp_mono S S74506 → wp_X7_keep o S74506 (fun S74508 => hp_mono S74506 S74508 → Q S74508))))
def wl_X7_init_745 (o : Nat) (v1 : Int32) (S : hp_St) (Q : hp_St → Prop) : Prop := ∃ (I : Int32 → hp_St → Prop) (μ : Int32 → hp_St → Nat), I v1 S ∧ ∀ (v1 : Int32) (S1 : hp_St), hp_mono S S1 → I v1 S1 → wb_X7_init_745 o v1 S1 (fun v1' S2 => I v1' S2 ∧ μ v1' S2 < μ v1 S1) Q
def wp_X7_init (o : Nat) (S : hp_St) (Q : hp_St → Prop) : Prop := (∀ n4 S1, n4 = st_Z S → S1 = st_nA S 50 500 → hp_fr S n4 → (∀ S8, S8 = st_pR S1 o 0 n4 → (∀ n14 S11, n14 = st_Z S8 → S11 = st_nA S8 50 12 → hp_fr S8 n14 → (∀ S18, S18 = st_pR S11 o 5 n14 → (∀ n24 S21, n24 = st_Z S18 → S21 = st_nA S18 50 12 → hp_fr S18 n24 → (∀ S28, S28 = st_pR S21 o 6 n24 → (∀ n34 S31, n34 = st_Z S28 → S31 = st_nA S28 50 16 → hp_fr S28 n34 → (∀ S38, S38 = st_pR S31 o 8 n34 → (∀ n44 S41, n44 = st_Z S38 → S41 = st_nA S38 50 16 → hp_fr S38 n44 → (∀ S48, S48 = st_pR S41 o 9 n44 → (∀ n54 S51, n54 = st_Z S48 → S51 = st_nA S48 50 16 → hp_fr S48 n54 → (∀ S58, S58 = st_pR S51 o 10 n54 → (∀ n64 S61, n64 = st_Z S58 → S61 = st_nA S58 50 16 → hp_fr S58 n64 → (∀ S68, S68 = st_pR S61 o 11 n64 → (∀ n74 S71, n74 = st_Z S68 → S71 = st_nA S68 50 16 → hp_fr S68 n74 → (∀ S78, S78 = st_pR S71 o 12 n74 → (∀ n84 S81, n84 = st_Z S78 → S81 = st_nA S78 50 16 → hp_fr S78 n84 → (∀ S88, S88 = st_pR S81 o 13 n84 → (∀ n94 S91, n94 = st_Z S88 → S91 = st_nA S88 50 200 → hp_fr S88 n94 → (∀ S98, S98 = st_pR S91 o 15 n94 → (∀ n104 S101, n104 = st_Z S98 → S101 = st_nA S98 50 60 → hp_fr S98 n104 → (∀ S108, S108 = st_pR S101 o 17 n104 → (∀ n114 S111, n114 = st_Z S108 → S111 = st_nA S108 50 60 → hp_fr S108 n114 → (∀ S118, S118 = st_pR S111 o 18 n114 → (∀ n124 S121, n124 = st_Z S118 → S121 = st_nA S118 50 60 → hp_fr S118 n124 → (∀ S128, S128 = st_pR S121 o 19 n124 → (∀ n134 S131, n134 = st_Z S128 → S131 = st_nA S128 50 60 → hp_fr S128 n134 → (∀ S138, S138 = st_pR S131 o 20 n134 → (∀ n144 S141, n144 = st_Z S138 → S141 = st_nA S138 50 40 → hp_fr S138 n144 → (∀ S148, S148 = st_pR S141 o 21 n144 → (∀ n154 S151, n154 = st_Z S148 → S151 = st_nA S148 50 75 → hp_fr S148 n154 → (vp_in (0 : Int32) (st_L S151 n154)) ∧ (∀ S159, S159 = st_pI S151 n154 (0 : Int32).toNatClampNeg (109 : Int32) → (vp_in (1 : Int32) (st_L S159 n154)) ∧ (∀ S163, S163 = st_pI S159 n154 (1 : Int32).toNatClampNeg (97 : Int32) → (vp_in (2 : Int32) (st_L S163 n154)) ∧ (∀ S167, S167 = st_pI S163 n154 (2 : Int32).toNatClampNeg (121 : Int32) → (vp_in (3 : Int32) (st_L S167 n154)) ∧ (∀ S171, S171 = st_pI S167 n154 (3 : Int32).toNatClampNeg (32 : Int32) → (vp_in (4 : Int32) (st_L S171 n154)) ∧ (∀ S175, S175 = st_pI S171 n154 (4 : Int32).toNatClampNeg (98 : Int32) → (vp_in (5 : Int32) (st_L S175 n154)) ∧ (∀ S179, S179 = st_pI S175 n154 (5 : Int32).toNatClampNeg (97 : Int32) → (vp_in (6 : Int32) (st_L S179 n154)) ∧ (∀ S183, S183 = st_pI S179 n154 (6 : Int32).toNatClampNeg (114 : Int32) → (vp_in (7 : Int32) (st_L S183 n154)) ∧ (∀ S187, S187 = st_pI S183 n154 (7 : Int32).toNatClampNeg (32 : Int32) → (vp_in (8 : Int32) (st_L S187 n154)) ∧ (∀ S191, S191 = st_pI S187 n154 (8 : Int32).toNatClampNeg (112 : Int32) → (vp_in (9 : Int32) (st_L S191 n154)) ∧ (∀ S195, S195 = st_pI S191 n154 (9 : Int32).toNatClampNeg (114 : Int32) → (vp_in (10 : Int32) (st_L S195 n154)) ∧ (∀ S199, S199 = st_pI S195 n154 (10 : Int32).toNatClampNeg (105 : Int32) → (vp_in (11 : Int32) (st_L S199 n154)) ∧ (∀ S203, S203 = st_pI S199 n154 (11 : Int32).toNatClampNeg (99 : Int32) → (vp_in (12 : Int32) (st_L S203 n154)) ∧ (∀ S207, S207 = st_pI S203 n154 (12 : Int32).toNatClampNeg (101 : Int32) → (vp_in (13 : Int32) (st_L S207 n154)) ∧ (∀ S211, S211 = st_pI S207 n154 (13 : Int32).toNatClampNeg (32 : Int32) → (vp_in (14 : Int32) (st_L S211 n154)) ∧ (∀ S215, S215 = st_pI S211 n154 (14 : Int32).toNatClampNeg (108 : Int32) → (vp_in (15 : Int32) (st_L S215 n154)) ∧ (∀ S219, S219 = st_pI S215 n154 (15 : Int32).toNatClampNeg (117 : Int32) → (vp_in (16 : Int32) (st_L S219 n154)) ∧ (∀ S223, S223 = st_pI S219 n154 (16 : Int32).toNatClampNeg (109 : Int32) → (vp_in (17 : Int32) (st_L S223 n154)) ∧ (∀ S227, S227 = st_pI S223 n154 (17 : Int32).toNatClampNeg (112 : Int32) → (vp_in (18 : Int32) (st_L S227 n154)) ∧ (∀ S231, S231 = st_pI S227 n154 (18 : Int32).toNatClampNeg (32 : Int32) → (vp_in (19 : Int32) (st_L S231 n154)) ∧ (∀ S235, S235 = st_pI S231 n154 (19 : Int32).toNatClampNeg (97 : Int32) → (vp_in (20 : Int32) (st_L S235 n154)) ∧ (∀ S239, S239 = st_pI S235 n154 (20 : Int32).toNatClampNeg (114 : Int32) → (vp_in (21 : Int32) (st_L S239 n154)) ∧ (∀ S243, S243 = st_pI S239 n154 (21 : Int32).toNatClampNeg (114 : Int32) → (vp_in (22 : Int32) (st_L S243 n154)) ∧ (∀ S247, S247 = st_pI S243 n154 (22 : Int32).toNatClampNeg (101 : Int32) → (vp_in (23 : Int32) (st_L S247 n154)) ∧ (∀ S251, S251 = st_pI S247 n154 (23 : Int32).toNatClampNeg (97 : Int32) → (vp_in (24 : Int32) (st_L S251 n154)) ∧ (∀ S255, S255 = st_pI S251 n154 (24 : Int32).toNatClampNeg (114 : Int32) → (vp_in (25 : Int32) (st_L S255 n154)) ∧ (∀ S259, S259 = st_pI S255 n154 (25 : Int32).toNatClampNeg (115 : Int32) → (vp_in (26 : Int32) (st_L S259 n154)) ∧ (∀ S263, S263 = st_pI S259 n154 (26 : Int32).toNatClampNeg (32 : Int32) → (vp_in (27 : Int32) (st_L S263 n154)) ∧ (∀ S267, S267 = st_pI S263 n154 (27 : Int32).toNatClampNeg (119 : Int32) → (vp_in (28 : Int32) (st_L S267 n154)) ∧ (∀ S271, S271 = st_pI S267 n154 (28 : Int32).toNatClampNeg (97 : Int32) → (vp_in (29 : Int32) (st_L S271 n154)) ∧ (∀ S275, S275 = st_pI S271 n154 (29 : Int32).toNatClampNeg (105 : Int32) → (vp_in (30 : Int32) (st_L S275 n154)) ∧ (∀ S279, S279 = st_pI S275 n154 (30 : Int32).toNatClampNeg (116 : Int32) → (vp_in (31 : Int32) (st_L S279 n154)) ∧ (∀ S283, S283 = st_pI S279 n154 (31 : Int32).toNatClampNeg (32 : Int32) → (vp_in (32 : Int32) (st_L S283 n154)) ∧ (∀ S287, S287 = st_pI S283 n154 (32 : Int32).toNatClampNeg (114 : Int32) → (vp_in (33 : Int32) (st_L S287 n154)) ∧ (∀ S291, S291 = st_pI S287 n154 (33 : Int32).toNatClampNeg (97 : Int32) → (vp_in (34 : Int32) (st_L S291 n154)) ∧ (∀ S295, S295 = st_pI S291 n154 (34 : Int32).toNatClampNeg (116 : Int32) → (vp_in (35 : Int32) (st_L S295 n154)) ∧ (∀ S299, S299 = st_pI S295 n154 (35 : Int32).toNatClampNeg (101 : Int32) → (vp_in (36 : Int32) (st_L S299 n154)) ∧ (∀ S303, S303 = st_pI S299 n154 (36 : Int32).toNatClampNeg (32 : Int32) → (vp_in (37 : Int32) (st_L S303 n154)) ∧ (∀ S307, S307 = st_pI S303 n154 (37 : Int32).toNatClampNeg (99 : Int32) → (vp_in (38 : Int32) (st_L S307 n154)) ∧ (∀ S311, S311 = st_pI S307 n154 (38 : Int32).toNatClampNeg (97 : Int32) → (vp_in (39 : Int32) (st_L S311 n154)) ∧ (∀ S315, S315 = st_pI S311 n154 (39 : Int32).toNatClampNeg (112 : Int32) → (vp_in (40 : Int32) (st_L S315 n154)) ∧ (∀ S319, S319 = st_pI S315 n154 (40 : Int32).toNatClampNeg (32 : Int32) → (vp_in (41 : Int32) (st_L S319 n154)) ∧ (∀ S323, S323 = st_pI S319 n154 (41 : Int32).toNatClampNeg (97 : Int32) → (vp_in (42 : Int32) (st_L S323 n154)) ∧ (∀ S327, S327 = st_pI S323 n154 (42 : Int32).toNatClampNeg (103 : Int32) → (vp_in (43 : Int32) (st_L S327 n154)) ∧ (∀ S331, S331 = st_pI S327 n154 (43 : Int32).toNatClampNeg (101 : Int32) → (vp_in (44 : Int32) (st_L S331 n154)) ∧ (∀ S335, S335 = st_pI S331 n154 (44 : Int32).toNatClampNeg (32 : Int32) → (vp_in (45 : Int32) (st_L S335 n154)) ∧ (∀ S339, S339 = st_pI S335 n154 (45 : Int32).toNatClampNeg (99 : Int32) → (vp_in (46 : Int32) (st_L S339 n154)) ∧ (∀ S343, S343 = st_pI S339 n154 (46 : Int32).toNatClampNeg (108 : Int32) → (vp_in (47 : Int32) (st_L S343 n154)) ∧ (∀ S347, S347 = st_pI S343 n154 (47 : Int32).toNatClampNeg (97 : Int32) → (vp_in (48 : Int32) (st_L S347 n154)) ∧ (∀ S351, S351 = st_pI S347 n154 (48 : Int32).toNatClampNeg (115 : Int32) → (vp_in (49 : Int32) (st_L S351 n154)) ∧ (∀ S355, S355 = st_pI S351 n154 (49 : Int32).toNatClampNeg (115 : Int32) → (vp_in (50 : Int32) (st_L S355 n154)) ∧ (∀ S359, S359 = st_pI S355 n154 (50 : Int32).toNatClampNeg (32 : Int32) → (vp_in (51 : Int32) (st_L S359 n154)) ∧ (∀ S363, S363 = st_pI S359 n154 (51 : Int32).toNatClampNeg (104 : Int32) → (vp_in (52 : Int32) (st_L S363 n154)) ∧ (∀ S367, S367 = st_pI S363 n154 (52 : Int32).toNatClampNeg (97 : Int32) → (vp_in (53 : Int32) (st_L S367 n154)) ∧ (∀ S371, S371 = st_pI S367 n154 (53 : Int32).toNatClampNeg (108 : Int32) → (vp_in (54 : Int32) (st_L S371 n154)) ∧ (∀ S375, S375 = st_pI S371 n154 (54 : Int32).toNatClampNeg (102 : Int32) → (vp_in (55 : Int32) (st_L S375 n154)) ∧ (∀ S379, S379 = st_pI S375 n154 (55 : Int32).toNatClampNeg (32 : Int32) → (vp_in (56 : Int32) (st_L S379 n154)) ∧ (∀ S383, S383 = st_pI S379 n154 (56 : Int32).toNatClampNeg (106 : Int32) → (vp_in (57 : Int32) (st_L S383 n154)) ∧ (∀ S387, S387 = st_pI S383 n154 (57 : Int32).toNatClampNeg (111 : Int32) → (vp_in (58 : Int32) (st_L S387 n154)) ∧ (∀ S391, S391 = st_pI S387 n154 (58 : Int32).toNatClampNeg (105 : Int32) → (vp_in (59 : Int32) (st_L S391 n154)) ∧ (∀ S395, S395 = st_pI S391 n154 (59 : Int32).toNatClampNeg (110 : Int32) → (vp_in (60 : Int32) (st_L S395 n154)) ∧ (∀ S399, S399 = st_pI S395 n154 (60 : Int32).toNatClampNeg (116 : Int32) → (vp_in (61 : Int32) (st_L S399 n154)) ∧ (∀ S403, S403 = st_pI S399 n154 (61 : Int32).toNatClampNeg (32 : Int32) → (vp_in (62 : Int32) (st_L S403 n154)) ∧ (∀ S407, S407 = st_pI S403 n154 (62 : Int32).toNatClampNeg (115 : Int32) → (vp_in (63 : Int32) (st_L S407 n154)) ∧ (∀ S411, S411 = st_pI S407 n154 (63 : Int32).toNatClampNeg (105 : Int32) → (vp_in (64 : Int32) (st_L S411 n154)) ∧ (∀ S415, S415 = st_pI S411 n154 (64 : Int32).toNatClampNeg (110 : Int32) → (vp_in (65 : Int32) (st_L S415 n154)) ∧ (∀ S419, S419 = st_pI S415 n154 (65 : Int32).toNatClampNeg (103 : Int32) → (vp_in (66 : Int32) (st_L S419 n154)) ∧ (∀ S423, S423 = st_pI S419 n154 (66 : Int32).toNatClampNeg (108 : Int32) → (vp_in (67 : Int32) (st_L S423 n154)) ∧ (∀ S427, S427 = st_pI S423 n154 (67 : Int32).toNatClampNeg (101 : Int32) → (vp_in (68 : Int32) (st_L S427 n154)) ∧ (∀ S431, S431 = st_pI S427 n154 (68 : Int32).toNatClampNeg (32 : Int32) → (vp_in (69 : Int32) (st_L S431 n154)) ∧ (∀ S435, S435 = st_pI S431 n154 (69 : Int32).toNatClampNeg (116 : Int32) → (vp_in (70 : Int32) (st_L S435 n154)) ∧ (∀ S439, S439 = st_pI S435 n154 (70 : Int32).toNatClampNeg (111 : Int32) → (vp_in (71 : Int32) (st_L S439 n154)) ∧ (∀ S443, S443 = st_pI S439 n154 (71 : Int32).toNatClampNeg (32 : Int32) → (vp_in (72 : Int32) (st_L S443 n154)) ∧ (∀ S447, S447 = st_pI S443 n154 (72 : Int32).toNatClampNeg (111 : Int32) → (vp_in (73 : Int32) (st_L S447 n154)) ∧ (∀ S451, S451 = st_pI S447 n154 (73 : Int32).toNatClampNeg (114 : Int32) → (vp_in (74 : Int32) (st_L S451 n154)) ∧ (∀ S455, S455 = st_pI S451 n154 (74 : Int32).toNatClampNeg (32 : Int32) → (∀ S458, S458 = st_pR S455 o 22 n154 → (∀ S461, S461 = st_pI S458 o 24 (-1 : Int32) → (∀ n467 S464, n467 = st_Z S461 → S464 = st_nA S461 50 48 → hp_fr S461 n467 → (∀ S471, S471 = st_pR S464 o 30 n467 → (∀ n477 S474, n477 = st_Z S471 → S474 = st_nA S471 50 48 → hp_fr S471 n477 → (∀ S481, S481 = st_pR S474 o 31 n477 → (∀ n487 S484, n487 = st_Z S481 → S484 = st_nA S481 50 48 → hp_fr S481 n487 → (∀ S491, S491 = st_pR S484 o 32 n487 → (∀ n497 S494, n497 = st_Z S491 → S494 = st_nA S491 50 48 → hp_fr S491 n497 → (∀ S501, S501 = st_pR S494 o 33 n497 → (∀ n507 S504, n507 = st_Z S501 → S504 = st_nA S501 50 48 → hp_fr S501 n507 → (∀ S511, S511 = st_pR S504 o 34 n507 → (∀ n517 S514, n517 = st_Z S511 → S514 = st_nA S511 50 48 → hp_fr S511 n517 → (∀ S521, S521 = st_pR S514 o 35 n517 → (∀ n527 S524, n527 = st_Z S521 → S524 = st_nA S521 50 48 → hp_fr S521 n527 → (∀ S531, S531 = st_pR S524 o 36 n527 → (∀ n537 S534, n537 = st_Z S531 → S534 = st_nA S531 50 48 → hp_fr S531 n537 → (∀ S541, S541 = st_pR S534 o 37 n537 → (∀ n547 S544, n547 = st_Z S541 → S544 = st_nA S541 50 8 → hp_fr S541 n547 → (∀ S551, S551 = st_pR S544 o 40 n547 → (∀ n557 S554, n557 = st_Z S551 → S554 = st_nA S551 51 4 → hp_fr S551 n557 → (∀ S561, S561 = st_pR S554 o 41 n557 → (∀ n567 S564, n567 = st_Z S561 → S564 = st_nA S561 51 60 → hp_fr S561 n567 → (∀ S571, S571 = st_pR S564 o 44 n567 → (∀ n577 S574, n577 = st_Z S571 → S574 = st_nA S571 50 12 → hp_fr S571 n577 → (∀ S581, S581 = st_pR S574 o 45 n577 → (∀ n587 S584, n587 = st_Z S581 → S584 = st_nA S581 50 1280 → hp_fr S581 n587 → (∀ S591, S591 = st_pR S584 o 46 n587 → (∀ n597 S594, n597 = st_Z S591 → S594 = st_nA S591 50 8 → hp_fr S591 n597 → (∀ S601, S601 = st_pR S594 o 47 n597 → (∀ n607 S604, n607 = st_Z S601 → S604 = st_nA S601 50 40 → hp_fr S601 n607 → (∀ S611, S611 = st_pR S604 o 51 n607 → (∀ n617 S614, n617 = st_Z S611 → S614 = st_nA S611 50 12 → hp_fr S611 n617 → (∀ S621, S621 = st_pR S614 o 53 n617 → (∀ n627 S624, n627 = st_Z S621 → S624 = st_nA S621 50 12 → hp_fr S621 n627 → (∀ S631, S631 = st_pR S624 o 54 n627 → (∀ n637 S634, n637 = st_Z S631 → S634 = st_nA S631 50 12 → hp_fr S631 n637 → (∀ S641, S641 = st_pR S634 o 55 n637 → (∀ n647 S644, n647 = st_Z S641 → S644 = st_nA S641 50 12 → hp_fr S641 n647 → (∀ S651, S651 = st_pR S644 o 56 n647 → (∀ n657 S654, n657 = st_Z S651 → S654 = st_nA S651 50 12 → hp_fr S651 n657 → (∀ S661, S661 = st_pR S654 o 57 n657 → wl_X7_init_745 o (0 : Int32) S661 Q))))))))))))))))))))))))))))))))))))))))))))))))))))))))))))))))))))))))))))))))))))))))))))))))))))))))))))))))))))))))))))))))))))))))))))))))))))
theorem nf_X7_init : hp_nf yX7_init 0 = true := by decide +kernel
set_option maxHeartbeats 4000000 in
theorem m_X7_init {l : Launch} {B : Nat} {D : va_G} {s0 : State} {b0 : Nat} (G : hp_G l B D s0 b0) (o : Nat) (Si : hp_St) (Q : hp_St → Prop) (hc0 : st_C Si o = 7) (h : wp_X7_init o Si Q) : hp_M l B D s0 yX7_init cX7_init 2 none 3 192 36 3031 [hp_v B o] Si (hp_Qv B D s0 (fun S' => hp_mono Si S' ∧ Q S')) := by
  refine hp_start G (by decide +kernel) rfl rfl (lv := [(0, hp_v B o)]) (by simp [lg_sl, hp_vc, hp_ci, hp_cj]) (by simp [lv_args, hp_vc, hp_ci, hp_cj]) ?_
  intro p e s m args below meth c E ls hl hR
  have hm : hp_mono Si Si := hp_mono.rf
  generalize hH : s.heap = H at hR ⊢
  generalize hLo : ([] : List Loc) = locs at hR ⊢
  have b745 : ∀ (v1 : Int32) (S : hp_St) (H : Heap) (locs : List Loc) (ls : Array Slot), wl_X7_init_745 o v1 S Q → lv_has ls 2 [(0, hp_v B o), (1, .int v1)] → hp_S B D s0 S H locs → hp_mono Si S → W p l e ({ frames := 3, cells := 36, slots := 3031, locals := 192 } : Room) s m args below meth c H locs 36 3031 (MQ below (hp_Qv B D s0 (fun S' => hp_mono Si S' ∧ Q S')) args s 36 3031 (fun q => B < q)) (F0 m 745 ls []) := by
    intro v1 S H locs ls h hl hR hm
    obtain ⟨I745, μ745, hI, hst⟩ := h
    obtain ⟨Sa745, eSa745⟩ : ∃ x, x = S := ⟨_, rfl⟩
    subst eSa745
    have key745 : ∀ (N : Nat) (v1 : Int32) (Su745 : hp_St) (H : Heap) (locs : List Loc) (ls : Array Slot), μ745 v1 Su745 < N → I745 v1 Su745 → lv_has ls 2 [(0, hp_v B o), (1, .int v1)] → hp_S B D s0 Su745 H locs → hp_mono Sa745 Su745 → W p l e ({ frames := 3, cells := 36, slots := 3031, locals := 192 } : Room) s m args below meth c H locs 36 3031 (MQ below (hp_Qv B D s0 (fun S' => hp_mono Si S' ∧ Q S')) args s 36 3031 (fun q => B < q)) (F0 m 745 ls []) := by
      intro N
      induction N with
      | zero =>
        intro v1 Su745 H locs ls hN
        exact absurd hN (Nat.not_lt_zero _)
      | succ N ih745 =>
        intro v1 Su745 H locs ls hN hI hl hR ms745
        have h := hst v1 Su745 ms745 hI
        have hm := hp_mono.tr hm ms745
        obtain ⟨K745, hKe745⟩ : ∃ K : Int32 → hp_St → Prop, K = (fun v1' Sk => I745 v1' Sk ∧ μ745 v1' Sk < μ745 v1 Su745) := ⟨_, rfl⟩
        rw [← hKe745] at h
        have hK745 : ∀ (v1' : Int32) (Sk : hp_St) (H : Heap) (locs : List Loc) (ls : Array Slot), K745 v1' Sk → lv_has ls 2 [(0, hp_v B o), (1, .int (v1'))] → hp_S B D s0 Sk H locs → hp_mono Sa745 Sk → W p l e ({ frames := 3, cells := 36, slots := 3031, locals := 192 } : Room) s m args below meth c H locs 36 3031 (MQ below (hp_Qv B D s0 (fun S' => hp_mono Si S' ∧ Q S')) args s 36 3031 (fun q => B < q)) (F0 m 745 ls []) := by
          intro v1' Sk H locs ls hI hl hR ms
          rw [hKe745] at hI
          exact ih745 v1' Sk H locs ls (Nat.lt_of_lt_of_le hI.2 (Nat.le_of_lt_succ hN)) hI.1 hl hR ms
        unfold wb_X7_init_745 at h
        refine hp_iload_n E hl 1 rfl 1 rfl dX7_init_745 (rfl : 745 + 1 = 746) ?_
        refine hp_bipush E (40 : Int32) (by decide) dX7_init_746 (rfl : 746 + 2 = 748) ?_
        refine hp_icmp_ge E dX7_init_748 (rfl : 748 + 3 = 751) (tgt := 766) (by decide) (fun hb => ?_) (fun hb => ?_)
        · have h := h.1 hb
          refine hp_aload_n E hl 0 rfl 0 rfl dX7_init_751 (rfl : 751 + 1 = 752) ?_
          refine hp_getR E hR in_X7 (hp_mono.c hm hc0) rfl 21 (Nat.le_of_ble_eq_true rfl) rfl q1282 (fun _ h => h) dX7_init_752 (rfl : 752 + 3 = 755) ?_
          refine hp_iload_n E hl 1 rfl 1 rfl dX7_init_755 (rfl : 755 + 1 = 756) ?_
          refine hp_sipush E (900 : Int32) (by decide) dX7_init_756 (rfl : 756 + 3 = 759) ?_
          obtain ⟨hc74501, h⟩ := h
          obtain ⟨hi74502, h⟩ := h
          refine hx_iast E hR hc74501 hi74502 dX7_init_759 (rfl : 759 + 1 = 760) (fun S74503 H locs e74505 hm74504 hR => ?_)
          have h := h S74503 e74505
          have hm := hp_mono.tr hm hm74504
          have ms745 := hp_mono.tr ms745 hm74504
          refine hp_iinc E hl (v1 + (1 : Int32)) 1 (lv' := [(0, hp_v B o)]) dX7_init_760 (rfl : 760 + 3 = 763) rfl (by first | rfl | (congr 1)) (by decide) (by simp [hp_vc, hp_ci, hp_cj]) (fun ls hl => ?_)
          refine hp_goto E (tgt := 745) dX7_init_763 (by decide) ?_
          exact hK745 _ _ _ _ _ h (lv_sub hl [1, 0] rfl) hR ms745
        · have h := h.2 hb
          refine hp_aload_n E hl 0 rfl 0 rfl dX7_init_766 (rfl : 766 + 1 = 767) ?_
          refine hp_fv (hp_rV E hR hl (m_X7_plain G _ _ _ (hp_mono.c hm hc0) h) (hp_mono.c hm hc0) (ci := 6) rfl rfl q1253 q1255 qs30 q82 q1256 nf_X7_plain ⟨Nat.le_of_ble_eq_true rfl, Nat.le_of_ble_eq_true rfl⟩ (rest := []) rfl (Nat.le_of_ble_eq_true rfl) dX7_init_767 ⟨Nat.le_of_ble_eq_true rfl, Nat.le_of_ble_eq_true rfl⟩) hR (rfl : 767 + 3 = 770) (fun S74506 H locs hq hR => ?_)
          obtain ⟨hm74507, h⟩ := hq
          have h := h hm74507
          have hm := hp_mono.tr hm hm74507
          have ms745 := hp_mono.tr ms745 hm74507
          refine hp_aload_n E hl 0 rfl 0 rfl dX7_init_770 (rfl : 770 + 1 = 771) ?_
          refine hp_fv (hp_rV E hR hl (m_X7_keep G _ _ _ (hp_mono.c hm hc0) h) (hp_mono.c hm hc0) (ci := 6) rfl rfl q1257 q1259 qs31 q82 q1260 nf_X7_keep ⟨Nat.le_of_ble_eq_true rfl, Nat.le_of_ble_eq_true rfl⟩ (rest := []) rfl (Nat.le_of_ble_eq_true rfl) dX7_init_771 ⟨Nat.le_of_ble_eq_true rfl, Nat.le_of_ble_eq_true rfl⟩) hR (rfl : 771 + 3 = 774) (fun S74508 H locs hq hR => ?_)
          obtain ⟨hm74509, h⟩ := hq
          have h := h hm74509
          have hm := hp_mono.tr hm hm74509
          have ms745 := hp_mono.tr ms745 hm74509
          exact hp_vret E hR ⟨hm, h⟩ (Nat.le_of_ble_eq_true rfl) (Nat.le_of_ble_eq_true rfl) dX7_init_774
    exact key745 (μ745 v1 Sa745 + 1) v1 _ H locs ls (Nat.lt_succ_self _) hI hl hR hp_mono.rf
  unfold wp_X7_init at h
  refine hp_aload_n E hl 0 rfl 0 rfl dX7_init_0 (rfl : 0 + 1 = 1) ?_
  refine hp_obj E hl (hp_ne hR hc0) q1252 q115 q116 dX7_init_1 (rfl : 1 + 3 = 4) (Nat.le_of_ble_eq_true rfl) (Nat.le_of_ble_eq_true rfl) (Nat.le_of_ble_eq_true rfl) ?_
  refine hp_aload_n E hl 0 rfl 0 rfl dX7_init_4 (rfl : 4 + 1 = 5) ?_
  refine hp_sipush E (500 : Int32) (by decide) dX7_init_5 (rfl : 5 + 3 = 8) ?_
  refine hx_newa E hR (atype := .int) (ty := .int) rfl 50 0 rfl (Or.inl ⟨rfl, rfl⟩) q249 (N := 500) (by decide) (by decide) (Nat.le_of_ble_eq_true rfl) (Nat.le_of_ble_eq_true rfl) (Nat.le_of_ble_eq_true rfl) dX7_init_8 (rfl : 8 + 2 = 10) (fun n4 S1 H e5 e3 hf6 hm2 hc7 hR => ?_)
  have h := h n4 S1 e5 e3 hf6
  have hm := hp_mono.tr hm hm2
  refine hx_putR E hR in_X7 tyX7 tyX7_ok nmX7 (hp_mono.c hm hc0) rfl 0 (Nat.le_of_ble_eq_true rfl) rfl q1261 (fun _ h => h) (Or.inr ⟨E.nmm, rfl⟩) rfl dX7_init_10 (rfl : 10 + 3 = 13) (fun S8 H locs e10 hm9 hR => ?_)
  have h := h S8 e10
  have hm := hp_mono.tr hm hm9
  refine hp_aload_n E hl 0 rfl 0 rfl dX7_init_13 (rfl : 13 + 1 = 14) ?_
  refine hp_bipush E (12 : Int32) (by decide) dX7_init_14 (rfl : 14 + 2 = 16) ?_
  refine hx_newa E hR (atype := .int) (ty := .int) rfl 50 0 rfl (Or.inl ⟨rfl, rfl⟩) q249 (N := 12) (by decide) (by decide) (Nat.le_of_ble_eq_true rfl) (Nat.le_of_ble_eq_true rfl) (Nat.le_of_ble_eq_true rfl) dX7_init_16 (rfl : 16 + 2 = 18) (fun n14 S11 H e15 e13 hf16 hm12 hc17 hR => ?_)
  have h := h n14 S11 e15 e13 hf16
  have hm := hp_mono.tr hm hm12
  refine hx_putR E hR in_X7 tyX7 tyX7_ok nmX7 (hp_mono.c hm hc0) rfl 5 (Nat.le_of_ble_eq_true rfl) rfl q1266 (fun _ h => h) (Or.inr ⟨E.nmm, rfl⟩) rfl dX7_init_18 (rfl : 18 + 3 = 21) (fun S18 H locs e20 hm19 hR => ?_)
  have h := h S18 e20
  have hm := hp_mono.tr hm hm19
  refine hp_aload_n E hl 0 rfl 0 rfl dX7_init_21 (rfl : 21 + 1 = 22) ?_
  refine hp_bipush E (12 : Int32) (by decide) dX7_init_22 (rfl : 22 + 2 = 24) ?_
  refine hx_newa E hR (atype := .int) (ty := .int) rfl 50 0 rfl (Or.inl ⟨rfl, rfl⟩) q249 (N := 12) (by decide) (by decide) (Nat.le_of_ble_eq_true rfl) (Nat.le_of_ble_eq_true rfl) (Nat.le_of_ble_eq_true rfl) dX7_init_24 (rfl : 24 + 2 = 26) (fun n24 S21 H e25 e23 hf26 hm22 hc27 hR => ?_)
  have h := h n24 S21 e25 e23 hf26
  have hm := hp_mono.tr hm hm22
  refine hx_putR E hR in_X7 tyX7 tyX7_ok nmX7 (hp_mono.c hm hc0) rfl 6 (Nat.le_of_ble_eq_true rfl) rfl q1267 (fun _ h => h) (Or.inr ⟨E.nmm, rfl⟩) rfl dX7_init_26 (rfl : 26 + 3 = 29) (fun S28 H locs e30 hm29 hR => ?_)
  have h := h S28 e30
  have hm := hp_mono.tr hm hm29
  refine hp_aload_n E hl 0 rfl 0 rfl dX7_init_29 (rfl : 29 + 1 = 30) ?_
  refine hp_bipush E (16 : Int32) (by decide) dX7_init_30 (rfl : 30 + 2 = 32) ?_
  refine hx_newa E hR (atype := .int) (ty := .int) rfl 50 0 rfl (Or.inl ⟨rfl, rfl⟩) q249 (N := 16) (by decide) (by decide) (Nat.le_of_ble_eq_true rfl) (Nat.le_of_ble_eq_true rfl) (Nat.le_of_ble_eq_true rfl) dX7_init_32 (rfl : 32 + 2 = 34) (fun n34 S31 H e35 e33 hf36 hm32 hc37 hR => ?_)
  have h := h n34 S31 e35 e33 hf36
  have hm := hp_mono.tr hm hm32
  refine hx_putR E hR in_X7 tyX7 tyX7_ok nmX7 (hp_mono.c hm hc0) rfl 8 (Nat.le_of_ble_eq_true rfl) rfl q1269 (fun _ h => h) (Or.inr ⟨E.nmm, rfl⟩) rfl dX7_init_34 (rfl : 34 + 3 = 37) (fun S38 H locs e40 hm39 hR => ?_)
  have h := h S38 e40
  have hm := hp_mono.tr hm hm39
  refine hp_aload_n E hl 0 rfl 0 rfl dX7_init_37 (rfl : 37 + 1 = 38) ?_
  refine hp_bipush E (16 : Int32) (by decide) dX7_init_38 (rfl : 38 + 2 = 40) ?_
  refine hx_newa E hR (atype := .int) (ty := .int) rfl 50 0 rfl (Or.inl ⟨rfl, rfl⟩) q249 (N := 16) (by decide) (by decide) (Nat.le_of_ble_eq_true rfl) (Nat.le_of_ble_eq_true rfl) (Nat.le_of_ble_eq_true rfl) dX7_init_40 (rfl : 40 + 2 = 42) (fun n44 S41 H e45 e43 hf46 hm42 hc47 hR => ?_)
  have h := h n44 S41 e45 e43 hf46
  have hm := hp_mono.tr hm hm42
  refine hx_putR E hR in_X7 tyX7 tyX7_ok nmX7 (hp_mono.c hm hc0) rfl 9 (Nat.le_of_ble_eq_true rfl) rfl q1270 (fun _ h => h) (Or.inr ⟨E.nmm, rfl⟩) rfl dX7_init_42 (rfl : 42 + 3 = 45) (fun S48 H locs e50 hm49 hR => ?_)
  have h := h S48 e50
  have hm := hp_mono.tr hm hm49
  refine hp_aload_n E hl 0 rfl 0 rfl dX7_init_45 (rfl : 45 + 1 = 46) ?_
  refine hp_bipush E (16 : Int32) (by decide) dX7_init_46 (rfl : 46 + 2 = 48) ?_
  refine hx_newa E hR (atype := .int) (ty := .int) rfl 50 0 rfl (Or.inl ⟨rfl, rfl⟩) q249 (N := 16) (by decide) (by decide) (Nat.le_of_ble_eq_true rfl) (Nat.le_of_ble_eq_true rfl) (Nat.le_of_ble_eq_true rfl) dX7_init_48 (rfl : 48 + 2 = 50) (fun n54 S51 H e55 e53 hf56 hm52 hc57 hR => ?_)
  have h := h n54 S51 e55 e53 hf56
  have hm := hp_mono.tr hm hm52
  refine hx_putR E hR in_X7 tyX7 tyX7_ok nmX7 (hp_mono.c hm hc0) rfl 10 (Nat.le_of_ble_eq_true rfl) rfl q1271 (fun _ h => h) (Or.inr ⟨E.nmm, rfl⟩) rfl dX7_init_50 (rfl : 50 + 3 = 53) (fun S58 H locs e60 hm59 hR => ?_)
  have h := h S58 e60
  have hm := hp_mono.tr hm hm59
  refine hp_aload_n E hl 0 rfl 0 rfl dX7_init_53 (rfl : 53 + 1 = 54) ?_
  refine hp_bipush E (16 : Int32) (by decide) dX7_init_54 (rfl : 54 + 2 = 56) ?_
  refine hx_newa E hR (atype := .int) (ty := .int) rfl 50 0 rfl (Or.inl ⟨rfl, rfl⟩) q249 (N := 16) (by decide) (by decide) (Nat.le_of_ble_eq_true rfl) (Nat.le_of_ble_eq_true rfl) (Nat.le_of_ble_eq_true rfl) dX7_init_56 (rfl : 56 + 2 = 58) (fun n64 S61 H e65 e63 hf66 hm62 hc67 hR => ?_)
  have h := h n64 S61 e65 e63 hf66
  have hm := hp_mono.tr hm hm62
  refine hx_putR E hR in_X7 tyX7 tyX7_ok nmX7 (hp_mono.c hm hc0) rfl 11 (Nat.le_of_ble_eq_true rfl) rfl q1272 (fun _ h => h) (Or.inr ⟨E.nmm, rfl⟩) rfl dX7_init_58 (rfl : 58 + 3 = 61) (fun S68 H locs e70 hm69 hR => ?_)
  have h := h S68 e70
  have hm := hp_mono.tr hm hm69
  refine hp_aload_n E hl 0 rfl 0 rfl dX7_init_61 (rfl : 61 + 1 = 62) ?_
  refine hp_bipush E (16 : Int32) (by decide) dX7_init_62 (rfl : 62 + 2 = 64) ?_
  refine hx_newa E hR (atype := .int) (ty := .int) rfl 50 0 rfl (Or.inl ⟨rfl, rfl⟩) q249 (N := 16) (by decide) (by decide) (Nat.le_of_ble_eq_true rfl) (Nat.le_of_ble_eq_true rfl) (Nat.le_of_ble_eq_true rfl) dX7_init_64 (rfl : 64 + 2 = 66) (fun n74 S71 H e75 e73 hf76 hm72 hc77 hR => ?_)
  have h := h n74 S71 e75 e73 hf76
  have hm := hp_mono.tr hm hm72
  refine hx_putR E hR in_X7 tyX7 tyX7_ok nmX7 (hp_mono.c hm hc0) rfl 12 (Nat.le_of_ble_eq_true rfl) rfl q1273 (fun _ h => h) (Or.inr ⟨E.nmm, rfl⟩) rfl dX7_init_66 (rfl : 66 + 3 = 69) (fun S78 H locs e80 hm79 hR => ?_)
  have h := h S78 e80
  have hm := hp_mono.tr hm hm79
  refine hp_aload_n E hl 0 rfl 0 rfl dX7_init_69 (rfl : 69 + 1 = 70) ?_
  refine hp_bipush E (16 : Int32) (by decide) dX7_init_70 (rfl : 70 + 2 = 72) ?_
  refine hx_newa E hR (atype := .int) (ty := .int) rfl 50 0 rfl (Or.inl ⟨rfl, rfl⟩) q249 (N := 16) (by decide) (by decide) (Nat.le_of_ble_eq_true rfl) (Nat.le_of_ble_eq_true rfl) (Nat.le_of_ble_eq_true rfl) dX7_init_72 (rfl : 72 + 2 = 74) (fun n84 S81 H e85 e83 hf86 hm82 hc87 hR => ?_)
  have h := h n84 S81 e85 e83 hf86
  have hm := hp_mono.tr hm hm82
  refine hx_putR E hR in_X7 tyX7 tyX7_ok nmX7 (hp_mono.c hm hc0) rfl 13 (Nat.le_of_ble_eq_true rfl) rfl q1274 (fun _ h => h) (Or.inr ⟨E.nmm, rfl⟩) rfl dX7_init_74 (rfl : 74 + 3 = 77) (fun S88 H locs e90 hm89 hR => ?_)
  have h := h S88 e90
  have hm := hp_mono.tr hm hm89
  refine hp_aload_n E hl 0 rfl 0 rfl dX7_init_77 (rfl : 77 + 1 = 78) ?_
  refine hp_sipush E (200 : Int32) (by decide) dX7_init_78 (rfl : 78 + 3 = 81) ?_
  refine hx_newa E hR (atype := .int) (ty := .int) rfl 50 0 rfl (Or.inl ⟨rfl, rfl⟩) q249 (N := 200) (by decide) (by decide) (Nat.le_of_ble_eq_true rfl) (Nat.le_of_ble_eq_true rfl) (Nat.le_of_ble_eq_true rfl) dX7_init_81 (rfl : 81 + 2 = 83) (fun n94 S91 H e95 e93 hf96 hm92 hc97 hR => ?_)
  have h := h n94 S91 e95 e93 hf96
  have hm := hp_mono.tr hm hm92
  refine hx_putR E hR in_X7 tyX7 tyX7_ok nmX7 (hp_mono.c hm hc0) rfl 15 (Nat.le_of_ble_eq_true rfl) rfl q1276 (fun _ h => h) (Or.inr ⟨E.nmm, rfl⟩) rfl dX7_init_83 (rfl : 83 + 3 = 86) (fun S98 H locs e100 hm99 hR => ?_)
  have h := h S98 e100
  have hm := hp_mono.tr hm hm99
  refine hp_aload_n E hl 0 rfl 0 rfl dX7_init_86 (rfl : 86 + 1 = 87) ?_
  refine hp_bipush E (60 : Int32) (by decide) dX7_init_87 (rfl : 87 + 2 = 89) ?_
  refine hx_newa E hR (atype := .int) (ty := .int) rfl 50 0 rfl (Or.inl ⟨rfl, rfl⟩) q249 (N := 60) (by decide) (by decide) (Nat.le_of_ble_eq_true rfl) (Nat.le_of_ble_eq_true rfl) (Nat.le_of_ble_eq_true rfl) dX7_init_89 (rfl : 89 + 2 = 91) (fun n104 S101 H e105 e103 hf106 hm102 hc107 hR => ?_)
  have h := h n104 S101 e105 e103 hf106
  have hm := hp_mono.tr hm hm102
  refine hx_putR E hR in_X7 tyX7 tyX7_ok nmX7 (hp_mono.c hm hc0) rfl 17 (Nat.le_of_ble_eq_true rfl) rfl q1278 (fun _ h => h) (Or.inr ⟨E.nmm, rfl⟩) rfl dX7_init_91 (rfl : 91 + 3 = 94) (fun S108 H locs e110 hm109 hR => ?_)
  have h := h S108 e110
  have hm := hp_mono.tr hm hm109
  refine hp_aload_n E hl 0 rfl 0 rfl dX7_init_94 (rfl : 94 + 1 = 95) ?_
  refine hp_bipush E (60 : Int32) (by decide) dX7_init_95 (rfl : 95 + 2 = 97) ?_
  refine hx_newa E hR (atype := .int) (ty := .int) rfl 50 0 rfl (Or.inl ⟨rfl, rfl⟩) q249 (N := 60) (by decide) (by decide) (Nat.le_of_ble_eq_true rfl) (Nat.le_of_ble_eq_true rfl) (Nat.le_of_ble_eq_true rfl) dX7_init_97 (rfl : 97 + 2 = 99) (fun n114 S111 H e115 e113 hf116 hm112 hc117 hR => ?_)
  have h := h n114 S111 e115 e113 hf116
  have hm := hp_mono.tr hm hm112
  refine hx_putR E hR in_X7 tyX7 tyX7_ok nmX7 (hp_mono.c hm hc0) rfl 18 (Nat.le_of_ble_eq_true rfl) rfl q1279 (fun _ h => h) (Or.inr ⟨E.nmm, rfl⟩) rfl dX7_init_99 (rfl : 99 + 3 = 102) (fun S118 H locs e120 hm119 hR => ?_)
  have h := h S118 e120
  have hm := hp_mono.tr hm hm119
  refine hp_aload_n E hl 0 rfl 0 rfl dX7_init_102 (rfl : 102 + 1 = 103) ?_
  refine hp_bipush E (60 : Int32) (by decide) dX7_init_103 (rfl : 103 + 2 = 105) ?_
  refine hx_newa E hR (atype := .int) (ty := .int) rfl 50 0 rfl (Or.inl ⟨rfl, rfl⟩) q249 (N := 60) (by decide) (by decide) (Nat.le_of_ble_eq_true rfl) (Nat.le_of_ble_eq_true rfl) (Nat.le_of_ble_eq_true rfl) dX7_init_105 (rfl : 105 + 2 = 107) (fun n124 S121 H e125 e123 hf126 hm122 hc127 hR => ?_)
  have h := h n124 S121 e125 e123 hf126
  have hm := hp_mono.tr hm hm122
  refine hx_putR E hR in_X7 tyX7 tyX7_ok nmX7 (hp_mono.c hm hc0) rfl 19 (Nat.le_of_ble_eq_true rfl) rfl q1280 (fun _ h => h) (Or.inr ⟨E.nmm, rfl⟩) rfl dX7_init_107 (rfl : 107 + 3 = 110) (fun S128 H locs e130 hm129 hR => ?_)
  have h := h S128 e130
  have hm := hp_mono.tr hm hm129
  refine hp_aload_n E hl 0 rfl 0 rfl dX7_init_110 (rfl : 110 + 1 = 111) ?_
  refine hp_bipush E (60 : Int32) (by decide) dX7_init_111 (rfl : 111 + 2 = 113) ?_
  refine hx_newa E hR (atype := .int) (ty := .int) rfl 50 0 rfl (Or.inl ⟨rfl, rfl⟩) q249 (N := 60) (by decide) (by decide) (Nat.le_of_ble_eq_true rfl) (Nat.le_of_ble_eq_true rfl) (Nat.le_of_ble_eq_true rfl) dX7_init_113 (rfl : 113 + 2 = 115) (fun n134 S131 H e135 e133 hf136 hm132 hc137 hR => ?_)
  have h := h n134 S131 e135 e133 hf136
  have hm := hp_mono.tr hm hm132
  refine hx_putR E hR in_X7 tyX7 tyX7_ok nmX7 (hp_mono.c hm hc0) rfl 20 (Nat.le_of_ble_eq_true rfl) rfl q1281 (fun _ h => h) (Or.inr ⟨E.nmm, rfl⟩) rfl dX7_init_115 (rfl : 115 + 3 = 118) (fun S138 H locs e140 hm139 hR => ?_)
  have h := h S138 e140
  have hm := hp_mono.tr hm hm139
  refine hp_aload_n E hl 0 rfl 0 rfl dX7_init_118 (rfl : 118 + 1 = 119) ?_
  refine hp_bipush E (40 : Int32) (by decide) dX7_init_119 (rfl : 119 + 2 = 121) ?_
  refine hx_newa E hR (atype := .int) (ty := .int) rfl 50 0 rfl (Or.inl ⟨rfl, rfl⟩) q249 (N := 40) (by decide) (by decide) (Nat.le_of_ble_eq_true rfl) (Nat.le_of_ble_eq_true rfl) (Nat.le_of_ble_eq_true rfl) dX7_init_121 (rfl : 121 + 2 = 123) (fun n144 S141 H e145 e143 hf146 hm142 hc147 hR => ?_)
  have h := h n144 S141 e145 e143 hf146
  have hm := hp_mono.tr hm hm142
  refine hx_putR E hR in_X7 tyX7 tyX7_ok nmX7 (hp_mono.c hm hc0) rfl 21 (Nat.le_of_ble_eq_true rfl) rfl q1282 (fun _ h => h) (Or.inr ⟨E.nmm, rfl⟩) rfl dX7_init_123 (rfl : 123 + 3 = 126) (fun S148 H locs e150 hm149 hR => ?_)
  have h := h S148 e150
  have hm := hp_mono.tr hm hm149
  refine hp_aload_n E hl 0 rfl 0 rfl dX7_init_126 (rfl : 126 + 1 = 127) ?_
  refine hp_bipush E (75 : Int32) (by decide) dX7_init_127 (rfl : 127 + 2 = 129) ?_
  refine hx_newa E hR (atype := .int) (ty := .int) rfl 50 0 rfl (Or.inl ⟨rfl, rfl⟩) q249 (N := 75) (by decide) (by decide) (Nat.le_of_ble_eq_true rfl) (Nat.le_of_ble_eq_true rfl) (Nat.le_of_ble_eq_true rfl) dX7_init_129 (rfl : 129 + 2 = 131) (fun n154 S151 H e155 e153 hf156 hm152 hc157 hR => ?_)
  have h := h n154 S151 e155 e153 hf156
  have hm := hp_mono.tr hm hm152
  refine hp_dup E hp_vc dX7_init_131 (rfl : 131 + 1 = 132) ?_
  refine hp_iconst E (0 : Int32) (by decide) dX7_init_132 (rfl : 132 + 1 = 133) ?_
  refine hp_bipush E (109 : Int32) (by decide) dX7_init_133 (rfl : 133 + 2 = 135) ?_
  obtain ⟨hi158, h⟩ := h
  refine hx_iast E hR hc157 hi158 dX7_init_135 (rfl : 135 + 1 = 136) (fun S159 H locs e161 hm160 hR => ?_)
  have h := h S159 e161
  have hm := hp_mono.tr hm hm160
  refine hp_dup E hp_vc dX7_init_136 (rfl : 136 + 1 = 137) ?_
  refine hp_iconst E (1 : Int32) (by decide) dX7_init_137 (rfl : 137 + 1 = 138) ?_
  refine hp_bipush E (97 : Int32) (by decide) dX7_init_138 (rfl : 138 + 2 = 140) ?_
  obtain ⟨hi162, h⟩ := h
  refine hx_iast E hR (hp_mono.c hm160 hc157) hi162 dX7_init_140 (rfl : 140 + 1 = 141) (fun S163 H locs e165 hm164 hR => ?_)
  have h := h S163 e165
  have hm := hp_mono.tr hm hm164
  refine hp_dup E hp_vc dX7_init_141 (rfl : 141 + 1 = 142) ?_
  refine hp_iconst E (2 : Int32) (by decide) dX7_init_142 (rfl : 142 + 1 = 143) ?_
  refine hp_bipush E (121 : Int32) (by decide) dX7_init_143 (rfl : 143 + 2 = 145) ?_
  obtain ⟨hi166, h⟩ := h
  refine hx_iast E hR (hp_mono.c hm164 (hp_mono.c hm160 hc157)) hi166 dX7_init_145 (rfl : 145 + 1 = 146) (fun S167 H locs e169 hm168 hR => ?_)
  have h := h S167 e169
  have hm := hp_mono.tr hm hm168
  refine hp_dup E hp_vc dX7_init_146 (rfl : 146 + 1 = 147) ?_
  refine hp_iconst E (3 : Int32) (by decide) dX7_init_147 (rfl : 147 + 1 = 148) ?_
  refine hp_bipush E (32 : Int32) (by decide) dX7_init_148 (rfl : 148 + 2 = 150) ?_
  obtain ⟨hi170, h⟩ := h
  refine hx_iast E hR (hp_mono.c hm168 (hp_mono.c hm164 (hp_mono.c hm160 hc157))) hi170 dX7_init_150 (rfl : 150 + 1 = 151) (fun S171 H locs e173 hm172 hR => ?_)
  have h := h S171 e173
  have hm := hp_mono.tr hm hm172
  refine hp_dup E hp_vc dX7_init_151 (rfl : 151 + 1 = 152) ?_
  refine hp_iconst E (4 : Int32) (by decide) dX7_init_152 (rfl : 152 + 1 = 153) ?_
  refine hp_bipush E (98 : Int32) (by decide) dX7_init_153 (rfl : 153 + 2 = 155) ?_
  obtain ⟨hi174, h⟩ := h
  refine hx_iast E hR (hp_mono.c hm172 (hp_mono.c hm168 (hp_mono.c hm164 (hp_mono.c hm160 hc157)))) hi174 dX7_init_155 (rfl : 155 + 1 = 156) (fun S175 H locs e177 hm176 hR => ?_)
  have h := h S175 e177
  have hm := hp_mono.tr hm hm176
  refine hp_dup E hp_vc dX7_init_156 (rfl : 156 + 1 = 157) ?_
  refine hp_iconst E (5 : Int32) (by decide) dX7_init_157 (rfl : 157 + 1 = 158) ?_
  refine hp_bipush E (97 : Int32) (by decide) dX7_init_158 (rfl : 158 + 2 = 160) ?_
  obtain ⟨hi178, h⟩ := h
  refine hx_iast E hR (hp_mono.c hm176 (hp_mono.c hm172 (hp_mono.c hm168 (hp_mono.c hm164 (hp_mono.c hm160 hc157))))) hi178 dX7_init_160 (rfl : 160 + 1 = 161) (fun S179 H locs e181 hm180 hR => ?_)
  have h := h S179 e181
  have hm := hp_mono.tr hm hm180
  refine hp_dup E hp_vc dX7_init_161 (rfl : 161 + 1 = 162) ?_
  refine hp_bipush E (6 : Int32) (by decide) dX7_init_162 (rfl : 162 + 2 = 164) ?_
  refine hp_bipush E (114 : Int32) (by decide) dX7_init_164 (rfl : 164 + 2 = 166) ?_
  obtain ⟨hi182, h⟩ := h
  refine hx_iast E hR (hp_mono.c hm180 (hp_mono.c hm176 (hp_mono.c hm172 (hp_mono.c hm168 (hp_mono.c hm164 (hp_mono.c hm160 hc157)))))) hi182 dX7_init_166 (rfl : 166 + 1 = 167) (fun S183 H locs e185 hm184 hR => ?_)
  have h := h S183 e185
  have hm := hp_mono.tr hm hm184
  refine hp_dup E hp_vc dX7_init_167 (rfl : 167 + 1 = 168) ?_
  refine hp_bipush E (7 : Int32) (by decide) dX7_init_168 (rfl : 168 + 2 = 170) ?_
  refine hp_bipush E (32 : Int32) (by decide) dX7_init_170 (rfl : 170 + 2 = 172) ?_
  obtain ⟨hi186, h⟩ := h
  refine hx_iast E hR (hp_mono.c hm184 (hp_mono.c hm180 (hp_mono.c hm176 (hp_mono.c hm172 (hp_mono.c hm168 (hp_mono.c hm164 (hp_mono.c hm160 hc157))))))) hi186 dX7_init_172 (rfl : 172 + 1 = 173) (fun S187 H locs e189 hm188 hR => ?_)
  have h := h S187 e189
  have hm := hp_mono.tr hm hm188
  refine hp_dup E hp_vc dX7_init_173 (rfl : 173 + 1 = 174) ?_
  refine hp_bipush E (8 : Int32) (by decide) dX7_init_174 (rfl : 174 + 2 = 176) ?_
  refine hp_bipush E (112 : Int32) (by decide) dX7_init_176 (rfl : 176 + 2 = 178) ?_
  obtain ⟨hi190, h⟩ := h
  refine hx_iast E hR (hp_mono.c hm188 (hp_mono.c hm184 (hp_mono.c hm180 (hp_mono.c hm176 (hp_mono.c hm172 (hp_mono.c hm168 (hp_mono.c hm164 (hp_mono.c hm160 hc157)))))))) hi190 dX7_init_178 (rfl : 178 + 1 = 179) (fun S191 H locs e193 hm192 hR => ?_)
  have h := h S191 e193
  have hm := hp_mono.tr hm hm192
  refine hp_dup E hp_vc dX7_init_179 (rfl : 179 + 1 = 180) ?_
  refine hp_bipush E (9 : Int32) (by decide) dX7_init_180 (rfl : 180 + 2 = 182) ?_
  refine hp_bipush E (114 : Int32) (by decide) dX7_init_182 (rfl : 182 + 2 = 184) ?_
  obtain ⟨hi194, h⟩ := h
  refine hx_iast E hR (hp_mono.c hm192 (hp_mono.c hm188 (hp_mono.c hm184 (hp_mono.c hm180 (hp_mono.c hm176 (hp_mono.c hm172 (hp_mono.c hm168 (hp_mono.c hm164 (hp_mono.c hm160 hc157))))))))) hi194 dX7_init_184 (rfl : 184 + 1 = 185) (fun S195 H locs e197 hm196 hR => ?_)
  have h := h S195 e197
  have hm := hp_mono.tr hm hm196
  refine hp_dup E hp_vc dX7_init_185 (rfl : 185 + 1 = 186) ?_
  refine hp_bipush E (10 : Int32) (by decide) dX7_init_186 (rfl : 186 + 2 = 188) ?_
  refine hp_bipush E (105 : Int32) (by decide) dX7_init_188 (rfl : 188 + 2 = 190) ?_
  obtain ⟨hi198, h⟩ := h
  refine hx_iast E hR (hp_mono.c hm196 (hp_mono.c hm192 (hp_mono.c hm188 (hp_mono.c hm184 (hp_mono.c hm180 (hp_mono.c hm176 (hp_mono.c hm172 (hp_mono.c hm168 (hp_mono.c hm164 (hp_mono.c hm160 hc157)))))))))) hi198 dX7_init_190 (rfl : 190 + 1 = 191) (fun S199 H locs e201 hm200 hR => ?_)
  have h := h S199 e201
  have hm := hp_mono.tr hm hm200
  refine hp_dup E hp_vc dX7_init_191 (rfl : 191 + 1 = 192) ?_
  refine hp_bipush E (11 : Int32) (by decide) dX7_init_192 (rfl : 192 + 2 = 194) ?_
  refine hp_bipush E (99 : Int32) (by decide) dX7_init_194 (rfl : 194 + 2 = 196) ?_
  obtain ⟨hi202, h⟩ := h
  refine hx_iast E hR (hp_mono.c hm200 (hp_mono.c hm196 (hp_mono.c hm192 (hp_mono.c hm188 (hp_mono.c hm184 (hp_mono.c hm180 (hp_mono.c hm176 (hp_mono.c hm172 (hp_mono.c hm168 (hp_mono.c hm164 (hp_mono.c hm160 hc157))))))))))) hi202 dX7_init_196 (rfl : 196 + 1 = 197) (fun S203 H locs e205 hm204 hR => ?_)
  have h := h S203 e205
  have hm := hp_mono.tr hm hm204
  refine hp_dup E hp_vc dX7_init_197 (rfl : 197 + 1 = 198) ?_
  refine hp_bipush E (12 : Int32) (by decide) dX7_init_198 (rfl : 198 + 2 = 200) ?_
  refine hp_bipush E (101 : Int32) (by decide) dX7_init_200 (rfl : 200 + 2 = 202) ?_
  obtain ⟨hi206, h⟩ := h
  refine hx_iast E hR (hp_mono.c hm204 (hp_mono.c hm200 (hp_mono.c hm196 (hp_mono.c hm192 (hp_mono.c hm188 (hp_mono.c hm184 (hp_mono.c hm180 (hp_mono.c hm176 (hp_mono.c hm172 (hp_mono.c hm168 (hp_mono.c hm164 (hp_mono.c hm160 hc157)))))))))))) hi206 dX7_init_202 (rfl : 202 + 1 = 203) (fun S207 H locs e209 hm208 hR => ?_)
  have h := h S207 e209
  have hm := hp_mono.tr hm hm208
  refine hp_dup E hp_vc dX7_init_203 (rfl : 203 + 1 = 204) ?_
  refine hp_bipush E (13 : Int32) (by decide) dX7_init_204 (rfl : 204 + 2 = 206) ?_
  refine hp_bipush E (32 : Int32) (by decide) dX7_init_206 (rfl : 206 + 2 = 208) ?_
  obtain ⟨hi210, h⟩ := h
  refine hx_iast E hR (hp_mono.c hm208 (hp_mono.c hm204 (hp_mono.c hm200 (hp_mono.c hm196 (hp_mono.c hm192 (hp_mono.c hm188 (hp_mono.c hm184 (hp_mono.c hm180 (hp_mono.c hm176 (hp_mono.c hm172 (hp_mono.c hm168 (hp_mono.c hm164 (hp_mono.c hm160 hc157))))))))))))) hi210 dX7_init_208 (rfl : 208 + 1 = 209) (fun S211 H locs e213 hm212 hR => ?_)
  have h := h S211 e213
  have hm := hp_mono.tr hm hm212
  refine hp_dup E hp_vc dX7_init_209 (rfl : 209 + 1 = 210) ?_
  refine hp_bipush E (14 : Int32) (by decide) dX7_init_210 (rfl : 210 + 2 = 212) ?_
  refine hp_bipush E (108 : Int32) (by decide) dX7_init_212 (rfl : 212 + 2 = 214) ?_
  obtain ⟨hi214, h⟩ := h
  refine hx_iast E hR (hp_mono.c hm212 (hp_mono.c hm208 (hp_mono.c hm204 (hp_mono.c hm200 (hp_mono.c hm196 (hp_mono.c hm192 (hp_mono.c hm188 (hp_mono.c hm184 (hp_mono.c hm180 (hp_mono.c hm176 (hp_mono.c hm172 (hp_mono.c hm168 (hp_mono.c hm164 (hp_mono.c hm160 hc157)))))))))))))) hi214 dX7_init_214 (rfl : 214 + 1 = 215) (fun S215 H locs e217 hm216 hR => ?_)
  have h := h S215 e217
  have hm := hp_mono.tr hm hm216
  refine hp_dup E hp_vc dX7_init_215 (rfl : 215 + 1 = 216) ?_
  refine hp_bipush E (15 : Int32) (by decide) dX7_init_216 (rfl : 216 + 2 = 218) ?_
  refine hp_bipush E (117 : Int32) (by decide) dX7_init_218 (rfl : 218 + 2 = 220) ?_
  obtain ⟨hi218, h⟩ := h
  refine hx_iast E hR (hp_mono.c hm216 (hp_mono.c hm212 (hp_mono.c hm208 (hp_mono.c hm204 (hp_mono.c hm200 (hp_mono.c hm196 (hp_mono.c hm192 (hp_mono.c hm188 (hp_mono.c hm184 (hp_mono.c hm180 (hp_mono.c hm176 (hp_mono.c hm172 (hp_mono.c hm168 (hp_mono.c hm164 (hp_mono.c hm160 hc157))))))))))))))) hi218 dX7_init_220 (rfl : 220 + 1 = 221) (fun S219 H locs e221 hm220 hR => ?_)
  have h := h S219 e221
  have hm := hp_mono.tr hm hm220
  refine hp_dup E hp_vc dX7_init_221 (rfl : 221 + 1 = 222) ?_
  refine hp_bipush E (16 : Int32) (by decide) dX7_init_222 (rfl : 222 + 2 = 224) ?_
  refine hp_bipush E (109 : Int32) (by decide) dX7_init_224 (rfl : 224 + 2 = 226) ?_
  obtain ⟨hi222, h⟩ := h
  refine hx_iast E hR (hp_mono.c hm220 (hp_mono.c hm216 (hp_mono.c hm212 (hp_mono.c hm208 (hp_mono.c hm204 (hp_mono.c hm200 (hp_mono.c hm196 (hp_mono.c hm192 (hp_mono.c hm188 (hp_mono.c hm184 (hp_mono.c hm180 (hp_mono.c hm176 (hp_mono.c hm172 (hp_mono.c hm168 (hp_mono.c hm164 (hp_mono.c hm160 hc157)))))))))))))))) hi222 dX7_init_226 (rfl : 226 + 1 = 227) (fun S223 H locs e225 hm224 hR => ?_)
  have h := h S223 e225
  have hm := hp_mono.tr hm hm224
  refine hp_dup E hp_vc dX7_init_227 (rfl : 227 + 1 = 228) ?_
  refine hp_bipush E (17 : Int32) (by decide) dX7_init_228 (rfl : 228 + 2 = 230) ?_
  refine hp_bipush E (112 : Int32) (by decide) dX7_init_230 (rfl : 230 + 2 = 232) ?_
  obtain ⟨hi226, h⟩ := h
  refine hx_iast E hR (hp_mono.c hm224 (hp_mono.c hm220 (hp_mono.c hm216 (hp_mono.c hm212 (hp_mono.c hm208 (hp_mono.c hm204 (hp_mono.c hm200 (hp_mono.c hm196 (hp_mono.c hm192 (hp_mono.c hm188 (hp_mono.c hm184 (hp_mono.c hm180 (hp_mono.c hm176 (hp_mono.c hm172 (hp_mono.c hm168 (hp_mono.c hm164 (hp_mono.c hm160 hc157))))))))))))))))) hi226 dX7_init_232 (rfl : 232 + 1 = 233) (fun S227 H locs e229 hm228 hR => ?_)
  have h := h S227 e229
  have hm := hp_mono.tr hm hm228
  refine hp_dup E hp_vc dX7_init_233 (rfl : 233 + 1 = 234) ?_
  refine hp_bipush E (18 : Int32) (by decide) dX7_init_234 (rfl : 234 + 2 = 236) ?_
  refine hp_bipush E (32 : Int32) (by decide) dX7_init_236 (rfl : 236 + 2 = 238) ?_
  obtain ⟨hi230, h⟩ := h
  refine hx_iast E hR (hp_mono.c hm228 (hp_mono.c hm224 (hp_mono.c hm220 (hp_mono.c hm216 (hp_mono.c hm212 (hp_mono.c hm208 (hp_mono.c hm204 (hp_mono.c hm200 (hp_mono.c hm196 (hp_mono.c hm192 (hp_mono.c hm188 (hp_mono.c hm184 (hp_mono.c hm180 (hp_mono.c hm176 (hp_mono.c hm172 (hp_mono.c hm168 (hp_mono.c hm164 (hp_mono.c hm160 hc157)))))))))))))))))) hi230 dX7_init_238 (rfl : 238 + 1 = 239) (fun S231 H locs e233 hm232 hR => ?_)
  have h := h S231 e233
  have hm := hp_mono.tr hm hm232
  refine hp_dup E hp_vc dX7_init_239 (rfl : 239 + 1 = 240) ?_
  refine hp_bipush E (19 : Int32) (by decide) dX7_init_240 (rfl : 240 + 2 = 242) ?_
  refine hp_bipush E (97 : Int32) (by decide) dX7_init_242 (rfl : 242 + 2 = 244) ?_
  obtain ⟨hi234, h⟩ := h
  refine hx_iast E hR (hp_mono.c hm232 (hp_mono.c hm228 (hp_mono.c hm224 (hp_mono.c hm220 (hp_mono.c hm216 (hp_mono.c hm212 (hp_mono.c hm208 (hp_mono.c hm204 (hp_mono.c hm200 (hp_mono.c hm196 (hp_mono.c hm192 (hp_mono.c hm188 (hp_mono.c hm184 (hp_mono.c hm180 (hp_mono.c hm176 (hp_mono.c hm172 (hp_mono.c hm168 (hp_mono.c hm164 (hp_mono.c hm160 hc157))))))))))))))))))) hi234 dX7_init_244 (rfl : 244 + 1 = 245) (fun S235 H locs e237 hm236 hR => ?_)
  have h := h S235 e237
  have hm := hp_mono.tr hm hm236
  refine hp_dup E hp_vc dX7_init_245 (rfl : 245 + 1 = 246) ?_
  refine hp_bipush E (20 : Int32) (by decide) dX7_init_246 (rfl : 246 + 2 = 248) ?_
  refine hp_bipush E (114 : Int32) (by decide) dX7_init_248 (rfl : 248 + 2 = 250) ?_
  obtain ⟨hi238, h⟩ := h
  refine hx_iast E hR (hp_mono.c hm236 (hp_mono.c hm232 (hp_mono.c hm228 (hp_mono.c hm224 (hp_mono.c hm220 (hp_mono.c hm216 (hp_mono.c hm212 (hp_mono.c hm208 (hp_mono.c hm204 (hp_mono.c hm200 (hp_mono.c hm196 (hp_mono.c hm192 (hp_mono.c hm188 (hp_mono.c hm184 (hp_mono.c hm180 (hp_mono.c hm176 (hp_mono.c hm172 (hp_mono.c hm168 (hp_mono.c hm164 (hp_mono.c hm160 hc157)))))))))))))))))))) hi238 dX7_init_250 (rfl : 250 + 1 = 251) (fun S239 H locs e241 hm240 hR => ?_)
  have h := h S239 e241
  have hm := hp_mono.tr hm hm240
  refine hp_dup E hp_vc dX7_init_251 (rfl : 251 + 1 = 252) ?_
  refine hp_bipush E (21 : Int32) (by decide) dX7_init_252 (rfl : 252 + 2 = 254) ?_
  refine hp_bipush E (114 : Int32) (by decide) dX7_init_254 (rfl : 254 + 2 = 256) ?_
  obtain ⟨hi242, h⟩ := h
  refine hx_iast E hR (hp_mono.c hm240 (hp_mono.c hm236 (hp_mono.c hm232 (hp_mono.c hm228 (hp_mono.c hm224 (hp_mono.c hm220 (hp_mono.c hm216 (hp_mono.c hm212 (hp_mono.c hm208 (hp_mono.c hm204 (hp_mono.c hm200 (hp_mono.c hm196 (hp_mono.c hm192 (hp_mono.c hm188 (hp_mono.c hm184 (hp_mono.c hm180 (hp_mono.c hm176 (hp_mono.c hm172 (hp_mono.c hm168 (hp_mono.c hm164 (hp_mono.c hm160 hc157))))))))))))))))))))) hi242 dX7_init_256 (rfl : 256 + 1 = 257) (fun S243 H locs e245 hm244 hR => ?_)
  have h := h S243 e245
  have hm := hp_mono.tr hm hm244
  refine hp_dup E hp_vc dX7_init_257 (rfl : 257 + 1 = 258) ?_
  refine hp_bipush E (22 : Int32) (by decide) dX7_init_258 (rfl : 258 + 2 = 260) ?_
  refine hp_bipush E (101 : Int32) (by decide) dX7_init_260 (rfl : 260 + 2 = 262) ?_
  obtain ⟨hi246, h⟩ := h
  refine hx_iast E hR (hp_mono.c hm244 (hp_mono.c hm240 (hp_mono.c hm236 (hp_mono.c hm232 (hp_mono.c hm228 (hp_mono.c hm224 (hp_mono.c hm220 (hp_mono.c hm216 (hp_mono.c hm212 (hp_mono.c hm208 (hp_mono.c hm204 (hp_mono.c hm200 (hp_mono.c hm196 (hp_mono.c hm192 (hp_mono.c hm188 (hp_mono.c hm184 (hp_mono.c hm180 (hp_mono.c hm176 (hp_mono.c hm172 (hp_mono.c hm168 (hp_mono.c hm164 (hp_mono.c hm160 hc157)))))))))))))))))))))) hi246 dX7_init_262 (rfl : 262 + 1 = 263) (fun S247 H locs e249 hm248 hR => ?_)
  have h := h S247 e249
  have hm := hp_mono.tr hm hm248
  refine hp_dup E hp_vc dX7_init_263 (rfl : 263 + 1 = 264) ?_
  refine hp_bipush E (23 : Int32) (by decide) dX7_init_264 (rfl : 264 + 2 = 266) ?_
  refine hp_bipush E (97 : Int32) (by decide) dX7_init_266 (rfl : 266 + 2 = 268) ?_
  obtain ⟨hi250, h⟩ := h
  refine hx_iast E hR (hp_mono.c hm248 (hp_mono.c hm244 (hp_mono.c hm240 (hp_mono.c hm236 (hp_mono.c hm232 (hp_mono.c hm228 (hp_mono.c hm224 (hp_mono.c hm220 (hp_mono.c hm216 (hp_mono.c hm212 (hp_mono.c hm208 (hp_mono.c hm204 (hp_mono.c hm200 (hp_mono.c hm196 (hp_mono.c hm192 (hp_mono.c hm188 (hp_mono.c hm184 (hp_mono.c hm180 (hp_mono.c hm176 (hp_mono.c hm172 (hp_mono.c hm168 (hp_mono.c hm164 (hp_mono.c hm160 hc157))))))))))))))))))))))) hi250 dX7_init_268 (rfl : 268 + 1 = 269) (fun S251 H locs e253 hm252 hR => ?_)
  have h := h S251 e253
  have hm := hp_mono.tr hm hm252
  refine hp_dup E hp_vc dX7_init_269 (rfl : 269 + 1 = 270) ?_
  refine hp_bipush E (24 : Int32) (by decide) dX7_init_270 (rfl : 270 + 2 = 272) ?_
  refine hp_bipush E (114 : Int32) (by decide) dX7_init_272 (rfl : 272 + 2 = 274) ?_
  obtain ⟨hi254, h⟩ := h
  refine hx_iast E hR (hp_mono.c hm252 (hp_mono.c hm248 (hp_mono.c hm244 (hp_mono.c hm240 (hp_mono.c hm236 (hp_mono.c hm232 (hp_mono.c hm228 (hp_mono.c hm224 (hp_mono.c hm220 (hp_mono.c hm216 (hp_mono.c hm212 (hp_mono.c hm208 (hp_mono.c hm204 (hp_mono.c hm200 (hp_mono.c hm196 (hp_mono.c hm192 (hp_mono.c hm188 (hp_mono.c hm184 (hp_mono.c hm180 (hp_mono.c hm176 (hp_mono.c hm172 (hp_mono.c hm168 (hp_mono.c hm164 (hp_mono.c hm160 hc157)))))))))))))))))))))))) hi254 dX7_init_274 (rfl : 274 + 1 = 275) (fun S255 H locs e257 hm256 hR => ?_)
  have h := h S255 e257
  have hm := hp_mono.tr hm hm256
  refine hp_dup E hp_vc dX7_init_275 (rfl : 275 + 1 = 276) ?_
  refine hp_bipush E (25 : Int32) (by decide) dX7_init_276 (rfl : 276 + 2 = 278) ?_
  refine hp_bipush E (115 : Int32) (by decide) dX7_init_278 (rfl : 278 + 2 = 280) ?_
  obtain ⟨hi258, h⟩ := h
  refine hx_iast E hR (hp_mono.c hm256 (hp_mono.c hm252 (hp_mono.c hm248 (hp_mono.c hm244 (hp_mono.c hm240 (hp_mono.c hm236 (hp_mono.c hm232 (hp_mono.c hm228 (hp_mono.c hm224 (hp_mono.c hm220 (hp_mono.c hm216 (hp_mono.c hm212 (hp_mono.c hm208 (hp_mono.c hm204 (hp_mono.c hm200 (hp_mono.c hm196 (hp_mono.c hm192 (hp_mono.c hm188 (hp_mono.c hm184 (hp_mono.c hm180 (hp_mono.c hm176 (hp_mono.c hm172 (hp_mono.c hm168 (hp_mono.c hm164 (hp_mono.c hm160 hc157))))))))))))))))))))))))) hi258 dX7_init_280 (rfl : 280 + 1 = 281) (fun S259 H locs e261 hm260 hR => ?_)
  have h := h S259 e261
  have hm := hp_mono.tr hm hm260
  refine hp_dup E hp_vc dX7_init_281 (rfl : 281 + 1 = 282) ?_
  refine hp_bipush E (26 : Int32) (by decide) dX7_init_282 (rfl : 282 + 2 = 284) ?_
  refine hp_bipush E (32 : Int32) (by decide) dX7_init_284 (rfl : 284 + 2 = 286) ?_
  obtain ⟨hi262, h⟩ := h
  refine hx_iast E hR (hp_mono.c hm260 (hp_mono.c hm256 (hp_mono.c hm252 (hp_mono.c hm248 (hp_mono.c hm244 (hp_mono.c hm240 (hp_mono.c hm236 (hp_mono.c hm232 (hp_mono.c hm228 (hp_mono.c hm224 (hp_mono.c hm220 (hp_mono.c hm216 (hp_mono.c hm212 (hp_mono.c hm208 (hp_mono.c hm204 (hp_mono.c hm200 (hp_mono.c hm196 (hp_mono.c hm192 (hp_mono.c hm188 (hp_mono.c hm184 (hp_mono.c hm180 (hp_mono.c hm176 (hp_mono.c hm172 (hp_mono.c hm168 (hp_mono.c hm164 (hp_mono.c hm160 hc157)))))))))))))))))))))))))) hi262 dX7_init_286 (rfl : 286 + 1 = 287) (fun S263 H locs e265 hm264 hR => ?_)
  have h := h S263 e265
  have hm := hp_mono.tr hm hm264
  refine hp_dup E hp_vc dX7_init_287 (rfl : 287 + 1 = 288) ?_
  refine hp_bipush E (27 : Int32) (by decide) dX7_init_288 (rfl : 288 + 2 = 290) ?_
  refine hp_bipush E (119 : Int32) (by decide) dX7_init_290 (rfl : 290 + 2 = 292) ?_
  obtain ⟨hi266, h⟩ := h
  refine hx_iast E hR (hp_mono.c hm264 (hp_mono.c hm260 (hp_mono.c hm256 (hp_mono.c hm252 (hp_mono.c hm248 (hp_mono.c hm244 (hp_mono.c hm240 (hp_mono.c hm236 (hp_mono.c hm232 (hp_mono.c hm228 (hp_mono.c hm224 (hp_mono.c hm220 (hp_mono.c hm216 (hp_mono.c hm212 (hp_mono.c hm208 (hp_mono.c hm204 (hp_mono.c hm200 (hp_mono.c hm196 (hp_mono.c hm192 (hp_mono.c hm188 (hp_mono.c hm184 (hp_mono.c hm180 (hp_mono.c hm176 (hp_mono.c hm172 (hp_mono.c hm168 (hp_mono.c hm164 (hp_mono.c hm160 hc157))))))))))))))))))))))))))) hi266 dX7_init_292 (rfl : 292 + 1 = 293) (fun S267 H locs e269 hm268 hR => ?_)
  have h := h S267 e269
  have hm := hp_mono.tr hm hm268
  refine hp_dup E hp_vc dX7_init_293 (rfl : 293 + 1 = 294) ?_
  refine hp_bipush E (28 : Int32) (by decide) dX7_init_294 (rfl : 294 + 2 = 296) ?_
  refine hp_bipush E (97 : Int32) (by decide) dX7_init_296 (rfl : 296 + 2 = 298) ?_
  obtain ⟨hi270, h⟩ := h
  refine hx_iast E hR (hp_mono.c hm268 (hp_mono.c hm264 (hp_mono.c hm260 (hp_mono.c hm256 (hp_mono.c hm252 (hp_mono.c hm248 (hp_mono.c hm244 (hp_mono.c hm240 (hp_mono.c hm236 (hp_mono.c hm232 (hp_mono.c hm228 (hp_mono.c hm224 (hp_mono.c hm220 (hp_mono.c hm216 (hp_mono.c hm212 (hp_mono.c hm208 (hp_mono.c hm204 (hp_mono.c hm200 (hp_mono.c hm196 (hp_mono.c hm192 (hp_mono.c hm188 (hp_mono.c hm184 (hp_mono.c hm180 (hp_mono.c hm176 (hp_mono.c hm172 (hp_mono.c hm168 (hp_mono.c hm164 (hp_mono.c hm160 hc157)))))))))))))))))))))))))))) hi270 dX7_init_298 (rfl : 298 + 1 = 299) (fun S271 H locs e273 hm272 hR => ?_)
  have h := h S271 e273
  have hm := hp_mono.tr hm hm272
  refine hp_dup E hp_vc dX7_init_299 (rfl : 299 + 1 = 300) ?_
  refine hp_bipush E (29 : Int32) (by decide) dX7_init_300 (rfl : 300 + 2 = 302) ?_
  refine hp_bipush E (105 : Int32) (by decide) dX7_init_302 (rfl : 302 + 2 = 304) ?_
  obtain ⟨hi274, h⟩ := h
  refine hx_iast E hR (hp_mono.c hm272 (hp_mono.c hm268 (hp_mono.c hm264 (hp_mono.c hm260 (hp_mono.c hm256 (hp_mono.c hm252 (hp_mono.c hm248 (hp_mono.c hm244 (hp_mono.c hm240 (hp_mono.c hm236 (hp_mono.c hm232 (hp_mono.c hm228 (hp_mono.c hm224 (hp_mono.c hm220 (hp_mono.c hm216 (hp_mono.c hm212 (hp_mono.c hm208 (hp_mono.c hm204 (hp_mono.c hm200 (hp_mono.c hm196 (hp_mono.c hm192 (hp_mono.c hm188 (hp_mono.c hm184 (hp_mono.c hm180 (hp_mono.c hm176 (hp_mono.c hm172 (hp_mono.c hm168 (hp_mono.c hm164 (hp_mono.c hm160 hc157))))))))))))))))))))))))))))) hi274 dX7_init_304 (rfl : 304 + 1 = 305) (fun S275 H locs e277 hm276 hR => ?_)
  have h := h S275 e277
  have hm := hp_mono.tr hm hm276
  refine hp_dup E hp_vc dX7_init_305 (rfl : 305 + 1 = 306) ?_
  refine hp_bipush E (30 : Int32) (by decide) dX7_init_306 (rfl : 306 + 2 = 308) ?_
  refine hp_bipush E (116 : Int32) (by decide) dX7_init_308 (rfl : 308 + 2 = 310) ?_
  obtain ⟨hi278, h⟩ := h
  refine hx_iast E hR (hp_mono.c hm276 (hp_mono.c hm272 (hp_mono.c hm268 (hp_mono.c hm264 (hp_mono.c hm260 (hp_mono.c hm256 (hp_mono.c hm252 (hp_mono.c hm248 (hp_mono.c hm244 (hp_mono.c hm240 (hp_mono.c hm236 (hp_mono.c hm232 (hp_mono.c hm228 (hp_mono.c hm224 (hp_mono.c hm220 (hp_mono.c hm216 (hp_mono.c hm212 (hp_mono.c hm208 (hp_mono.c hm204 (hp_mono.c hm200 (hp_mono.c hm196 (hp_mono.c hm192 (hp_mono.c hm188 (hp_mono.c hm184 (hp_mono.c hm180 (hp_mono.c hm176 (hp_mono.c hm172 (hp_mono.c hm168 (hp_mono.c hm164 (hp_mono.c hm160 hc157)))))))))))))))))))))))))))))) hi278 dX7_init_310 (rfl : 310 + 1 = 311) (fun S279 H locs e281 hm280 hR => ?_)
  have h := h S279 e281
  have hm := hp_mono.tr hm hm280
  refine hp_dup E hp_vc dX7_init_311 (rfl : 311 + 1 = 312) ?_
  refine hp_bipush E (31 : Int32) (by decide) dX7_init_312 (rfl : 312 + 2 = 314) ?_
  refine hp_bipush E (32 : Int32) (by decide) dX7_init_314 (rfl : 314 + 2 = 316) ?_
  obtain ⟨hi282, h⟩ := h
  refine hx_iast E hR (hp_mono.c hm280 (hp_mono.c hm276 (hp_mono.c hm272 (hp_mono.c hm268 (hp_mono.c hm264 (hp_mono.c hm260 (hp_mono.c hm256 (hp_mono.c hm252 (hp_mono.c hm248 (hp_mono.c hm244 (hp_mono.c hm240 (hp_mono.c hm236 (hp_mono.c hm232 (hp_mono.c hm228 (hp_mono.c hm224 (hp_mono.c hm220 (hp_mono.c hm216 (hp_mono.c hm212 (hp_mono.c hm208 (hp_mono.c hm204 (hp_mono.c hm200 (hp_mono.c hm196 (hp_mono.c hm192 (hp_mono.c hm188 (hp_mono.c hm184 (hp_mono.c hm180 (hp_mono.c hm176 (hp_mono.c hm172 (hp_mono.c hm168 (hp_mono.c hm164 (hp_mono.c hm160 hc157))))))))))))))))))))))))))))))) hi282 dX7_init_316 (rfl : 316 + 1 = 317) (fun S283 H locs e285 hm284 hR => ?_)
  have h := h S283 e285
  have hm := hp_mono.tr hm hm284
  refine hp_dup E hp_vc dX7_init_317 (rfl : 317 + 1 = 318) ?_
  refine hp_bipush E (32 : Int32) (by decide) dX7_init_318 (rfl : 318 + 2 = 320) ?_
  refine hp_bipush E (114 : Int32) (by decide) dX7_init_320 (rfl : 320 + 2 = 322) ?_
  obtain ⟨hi286, h⟩ := h
  refine hx_iast E hR (hp_mono.c hm284 (hp_mono.c hm280 (hp_mono.c hm276 (hp_mono.c hm272 (hp_mono.c hm268 (hp_mono.c hm264 (hp_mono.c hm260 (hp_mono.c hm256 (hp_mono.c hm252 (hp_mono.c hm248 (hp_mono.c hm244 (hp_mono.c hm240 (hp_mono.c hm236 (hp_mono.c hm232 (hp_mono.c hm228 (hp_mono.c hm224 (hp_mono.c hm220 (hp_mono.c hm216 (hp_mono.c hm212 (hp_mono.c hm208 (hp_mono.c hm204 (hp_mono.c hm200 (hp_mono.c hm196 (hp_mono.c hm192 (hp_mono.c hm188 (hp_mono.c hm184 (hp_mono.c hm180 (hp_mono.c hm176 (hp_mono.c hm172 (hp_mono.c hm168 (hp_mono.c hm164 (hp_mono.c hm160 hc157)))))))))))))))))))))))))))))))) hi286 dX7_init_322 (rfl : 322 + 1 = 323) (fun S287 H locs e289 hm288 hR => ?_)
  have h := h S287 e289
  have hm := hp_mono.tr hm hm288
  refine hp_dup E hp_vc dX7_init_323 (rfl : 323 + 1 = 324) ?_
  refine hp_bipush E (33 : Int32) (by decide) dX7_init_324 (rfl : 324 + 2 = 326) ?_
  refine hp_bipush E (97 : Int32) (by decide) dX7_init_326 (rfl : 326 + 2 = 328) ?_
  obtain ⟨hi290, h⟩ := h
  refine hx_iast E hR (hp_mono.c hm288 (hp_mono.c hm284 (hp_mono.c hm280 (hp_mono.c hm276 (hp_mono.c hm272 (hp_mono.c hm268 (hp_mono.c hm264 (hp_mono.c hm260 (hp_mono.c hm256 (hp_mono.c hm252 (hp_mono.c hm248 (hp_mono.c hm244 (hp_mono.c hm240 (hp_mono.c hm236 (hp_mono.c hm232 (hp_mono.c hm228 (hp_mono.c hm224 (hp_mono.c hm220 (hp_mono.c hm216 (hp_mono.c hm212 (hp_mono.c hm208 (hp_mono.c hm204 (hp_mono.c hm200 (hp_mono.c hm196 (hp_mono.c hm192 (hp_mono.c hm188 (hp_mono.c hm184 (hp_mono.c hm180 (hp_mono.c hm176 (hp_mono.c hm172 (hp_mono.c hm168 (hp_mono.c hm164 (hp_mono.c hm160 hc157))))))))))))))))))))))))))))))))) hi290 dX7_init_328 (rfl : 328 + 1 = 329) (fun S291 H locs e293 hm292 hR => ?_)
  have h := h S291 e293
  have hm := hp_mono.tr hm hm292
  refine hp_dup E hp_vc dX7_init_329 (rfl : 329 + 1 = 330) ?_
  refine hp_bipush E (34 : Int32) (by decide) dX7_init_330 (rfl : 330 + 2 = 332) ?_
  refine hp_bipush E (116 : Int32) (by decide) dX7_init_332 (rfl : 332 + 2 = 334) ?_
  obtain ⟨hi294, h⟩ := h
  refine hx_iast E hR (hp_mono.c hm292 (hp_mono.c hm288 (hp_mono.c hm284 (hp_mono.c hm280 (hp_mono.c hm276 (hp_mono.c hm272 (hp_mono.c hm268 (hp_mono.c hm264 (hp_mono.c hm260 (hp_mono.c hm256 (hp_mono.c hm252 (hp_mono.c hm248 (hp_mono.c hm244 (hp_mono.c hm240 (hp_mono.c hm236 (hp_mono.c hm232 (hp_mono.c hm228 (hp_mono.c hm224 (hp_mono.c hm220 (hp_mono.c hm216 (hp_mono.c hm212 (hp_mono.c hm208 (hp_mono.c hm204 (hp_mono.c hm200 (hp_mono.c hm196 (hp_mono.c hm192 (hp_mono.c hm188 (hp_mono.c hm184 (hp_mono.c hm180 (hp_mono.c hm176 (hp_mono.c hm172 (hp_mono.c hm168 (hp_mono.c hm164 (hp_mono.c hm160 hc157)))))))))))))))))))))))))))))))))) hi294 dX7_init_334 (rfl : 334 + 1 = 335) (fun S295 H locs e297 hm296 hR => ?_)
  have h := h S295 e297
  have hm := hp_mono.tr hm hm296
  refine hp_dup E hp_vc dX7_init_335 (rfl : 335 + 1 = 336) ?_
  refine hp_bipush E (35 : Int32) (by decide) dX7_init_336 (rfl : 336 + 2 = 338) ?_
  refine hp_bipush E (101 : Int32) (by decide) dX7_init_338 (rfl : 338 + 2 = 340) ?_
  obtain ⟨hi298, h⟩ := h
  refine hx_iast E hR (hp_mono.c hm296 (hp_mono.c hm292 (hp_mono.c hm288 (hp_mono.c hm284 (hp_mono.c hm280 (hp_mono.c hm276 (hp_mono.c hm272 (hp_mono.c hm268 (hp_mono.c hm264 (hp_mono.c hm260 (hp_mono.c hm256 (hp_mono.c hm252 (hp_mono.c hm248 (hp_mono.c hm244 (hp_mono.c hm240 (hp_mono.c hm236 (hp_mono.c hm232 (hp_mono.c hm228 (hp_mono.c hm224 (hp_mono.c hm220 (hp_mono.c hm216 (hp_mono.c hm212 (hp_mono.c hm208 (hp_mono.c hm204 (hp_mono.c hm200 (hp_mono.c hm196 (hp_mono.c hm192 (hp_mono.c hm188 (hp_mono.c hm184 (hp_mono.c hm180 (hp_mono.c hm176 (hp_mono.c hm172 (hp_mono.c hm168 (hp_mono.c hm164 (hp_mono.c hm160 hc157))))))))))))))))))))))))))))))))))) hi298 dX7_init_340 (rfl : 340 + 1 = 341) (fun S299 H locs e301 hm300 hR => ?_)
  have h := h S299 e301
  have hm := hp_mono.tr hm hm300
  refine hp_dup E hp_vc dX7_init_341 (rfl : 341 + 1 = 342) ?_
  refine hp_bipush E (36 : Int32) (by decide) dX7_init_342 (rfl : 342 + 2 = 344) ?_
  refine hp_bipush E (32 : Int32) (by decide) dX7_init_344 (rfl : 344 + 2 = 346) ?_
  obtain ⟨hi302, h⟩ := h
  refine hx_iast E hR (hp_mono.c hm300 (hp_mono.c hm296 (hp_mono.c hm292 (hp_mono.c hm288 (hp_mono.c hm284 (hp_mono.c hm280 (hp_mono.c hm276 (hp_mono.c hm272 (hp_mono.c hm268 (hp_mono.c hm264 (hp_mono.c hm260 (hp_mono.c hm256 (hp_mono.c hm252 (hp_mono.c hm248 (hp_mono.c hm244 (hp_mono.c hm240 (hp_mono.c hm236 (hp_mono.c hm232 (hp_mono.c hm228 (hp_mono.c hm224 (hp_mono.c hm220 (hp_mono.c hm216 (hp_mono.c hm212 (hp_mono.c hm208 (hp_mono.c hm204 (hp_mono.c hm200 (hp_mono.c hm196 (hp_mono.c hm192 (hp_mono.c hm188 (hp_mono.c hm184 (hp_mono.c hm180 (hp_mono.c hm176 (hp_mono.c hm172 (hp_mono.c hm168 (hp_mono.c hm164 (hp_mono.c hm160 hc157)))))))))))))))))))))))))))))))))))) hi302 dX7_init_346 (rfl : 346 + 1 = 347) (fun S303 H locs e305 hm304 hR => ?_)
  have h := h S303 e305
  have hm := hp_mono.tr hm hm304
  refine hp_dup E hp_vc dX7_init_347 (rfl : 347 + 1 = 348) ?_
  refine hp_bipush E (37 : Int32) (by decide) dX7_init_348 (rfl : 348 + 2 = 350) ?_
  refine hp_bipush E (99 : Int32) (by decide) dX7_init_350 (rfl : 350 + 2 = 352) ?_
  obtain ⟨hi306, h⟩ := h
  refine hx_iast E hR (hp_mono.c hm304 (hp_mono.c hm300 (hp_mono.c hm296 (hp_mono.c hm292 (hp_mono.c hm288 (hp_mono.c hm284 (hp_mono.c hm280 (hp_mono.c hm276 (hp_mono.c hm272 (hp_mono.c hm268 (hp_mono.c hm264 (hp_mono.c hm260 (hp_mono.c hm256 (hp_mono.c hm252 (hp_mono.c hm248 (hp_mono.c hm244 (hp_mono.c hm240 (hp_mono.c hm236 (hp_mono.c hm232 (hp_mono.c hm228 (hp_mono.c hm224 (hp_mono.c hm220 (hp_mono.c hm216 (hp_mono.c hm212 (hp_mono.c hm208 (hp_mono.c hm204 (hp_mono.c hm200 (hp_mono.c hm196 (hp_mono.c hm192 (hp_mono.c hm188 (hp_mono.c hm184 (hp_mono.c hm180 (hp_mono.c hm176 (hp_mono.c hm172 (hp_mono.c hm168 (hp_mono.c hm164 (hp_mono.c hm160 hc157))))))))))))))))))))))))))))))))))))) hi306 dX7_init_352 (rfl : 352 + 1 = 353) (fun S307 H locs e309 hm308 hR => ?_)
  have h := h S307 e309
  have hm := hp_mono.tr hm hm308
  refine hp_dup E hp_vc dX7_init_353 (rfl : 353 + 1 = 354) ?_
  refine hp_bipush E (38 : Int32) (by decide) dX7_init_354 (rfl : 354 + 2 = 356) ?_
  refine hp_bipush E (97 : Int32) (by decide) dX7_init_356 (rfl : 356 + 2 = 358) ?_
  obtain ⟨hi310, h⟩ := h
  refine hx_iast E hR (hp_mono.c hm308 (hp_mono.c hm304 (hp_mono.c hm300 (hp_mono.c hm296 (hp_mono.c hm292 (hp_mono.c hm288 (hp_mono.c hm284 (hp_mono.c hm280 (hp_mono.c hm276 (hp_mono.c hm272 (hp_mono.c hm268 (hp_mono.c hm264 (hp_mono.c hm260 (hp_mono.c hm256 (hp_mono.c hm252 (hp_mono.c hm248 (hp_mono.c hm244 (hp_mono.c hm240 (hp_mono.c hm236 (hp_mono.c hm232 (hp_mono.c hm228 (hp_mono.c hm224 (hp_mono.c hm220 (hp_mono.c hm216 (hp_mono.c hm212 (hp_mono.c hm208 (hp_mono.c hm204 (hp_mono.c hm200 (hp_mono.c hm196 (hp_mono.c hm192 (hp_mono.c hm188 (hp_mono.c hm184 (hp_mono.c hm180 (hp_mono.c hm176 (hp_mono.c hm172 (hp_mono.c hm168 (hp_mono.c hm164 (hp_mono.c hm160 hc157)))))))))))))))))))))))))))))))))))))) hi310 dX7_init_358 (rfl : 358 + 1 = 359) (fun S311 H locs e313 hm312 hR => ?_)
  have h := h S311 e313
  have hm := hp_mono.tr hm hm312
  refine hp_dup E hp_vc dX7_init_359 (rfl : 359 + 1 = 360) ?_
  refine hp_bipush E (39 : Int32) (by decide) dX7_init_360 (rfl : 360 + 2 = 362) ?_
  refine hp_bipush E (112 : Int32) (by decide) dX7_init_362 (rfl : 362 + 2 = 364) ?_
  obtain ⟨hi314, h⟩ := h
  refine hx_iast E hR (hp_mono.c hm312 (hp_mono.c hm308 (hp_mono.c hm304 (hp_mono.c hm300 (hp_mono.c hm296 (hp_mono.c hm292 (hp_mono.c hm288 (hp_mono.c hm284 (hp_mono.c hm280 (hp_mono.c hm276 (hp_mono.c hm272 (hp_mono.c hm268 (hp_mono.c hm264 (hp_mono.c hm260 (hp_mono.c hm256 (hp_mono.c hm252 (hp_mono.c hm248 (hp_mono.c hm244 (hp_mono.c hm240 (hp_mono.c hm236 (hp_mono.c hm232 (hp_mono.c hm228 (hp_mono.c hm224 (hp_mono.c hm220 (hp_mono.c hm216 (hp_mono.c hm212 (hp_mono.c hm208 (hp_mono.c hm204 (hp_mono.c hm200 (hp_mono.c hm196 (hp_mono.c hm192 (hp_mono.c hm188 (hp_mono.c hm184 (hp_mono.c hm180 (hp_mono.c hm176 (hp_mono.c hm172 (hp_mono.c hm168 (hp_mono.c hm164 (hp_mono.c hm160 hc157))))))))))))))))))))))))))))))))))))))) hi314 dX7_init_364 (rfl : 364 + 1 = 365) (fun S315 H locs e317 hm316 hR => ?_)
  have h := h S315 e317
  have hm := hp_mono.tr hm hm316
  refine hp_dup E hp_vc dX7_init_365 (rfl : 365 + 1 = 366) ?_
  refine hp_bipush E (40 : Int32) (by decide) dX7_init_366 (rfl : 366 + 2 = 368) ?_
  refine hp_bipush E (32 : Int32) (by decide) dX7_init_368 (rfl : 368 + 2 = 370) ?_
  obtain ⟨hi318, h⟩ := h
  refine hx_iast E hR (hp_mono.c hm316 (hp_mono.c hm312 (hp_mono.c hm308 (hp_mono.c hm304 (hp_mono.c hm300 (hp_mono.c hm296 (hp_mono.c hm292 (hp_mono.c hm288 (hp_mono.c hm284 (hp_mono.c hm280 (hp_mono.c hm276 (hp_mono.c hm272 (hp_mono.c hm268 (hp_mono.c hm264 (hp_mono.c hm260 (hp_mono.c hm256 (hp_mono.c hm252 (hp_mono.c hm248 (hp_mono.c hm244 (hp_mono.c hm240 (hp_mono.c hm236 (hp_mono.c hm232 (hp_mono.c hm228 (hp_mono.c hm224 (hp_mono.c hm220 (hp_mono.c hm216 (hp_mono.c hm212 (hp_mono.c hm208 (hp_mono.c hm204 (hp_mono.c hm200 (hp_mono.c hm196 (hp_mono.c hm192 (hp_mono.c hm188 (hp_mono.c hm184 (hp_mono.c hm180 (hp_mono.c hm176 (hp_mono.c hm172 (hp_mono.c hm168 (hp_mono.c hm164 (hp_mono.c hm160 hc157)))))))))))))))))))))))))))))))))))))))) hi318 dX7_init_370 (rfl : 370 + 1 = 371) (fun S319 H locs e321 hm320 hR => ?_)
  have h := h S319 e321
  have hm := hp_mono.tr hm hm320
  refine hp_dup E hp_vc dX7_init_371 (rfl : 371 + 1 = 372) ?_
  refine hp_bipush E (41 : Int32) (by decide) dX7_init_372 (rfl : 372 + 2 = 374) ?_
  refine hp_bipush E (97 : Int32) (by decide) dX7_init_374 (rfl : 374 + 2 = 376) ?_
  obtain ⟨hi322, h⟩ := h
  refine hx_iast E hR (hp_mono.c hm320 (hp_mono.c hm316 (hp_mono.c hm312 (hp_mono.c hm308 (hp_mono.c hm304 (hp_mono.c hm300 (hp_mono.c hm296 (hp_mono.c hm292 (hp_mono.c hm288 (hp_mono.c hm284 (hp_mono.c hm280 (hp_mono.c hm276 (hp_mono.c hm272 (hp_mono.c hm268 (hp_mono.c hm264 (hp_mono.c hm260 (hp_mono.c hm256 (hp_mono.c hm252 (hp_mono.c hm248 (hp_mono.c hm244 (hp_mono.c hm240 (hp_mono.c hm236 (hp_mono.c hm232 (hp_mono.c hm228 (hp_mono.c hm224 (hp_mono.c hm220 (hp_mono.c hm216 (hp_mono.c hm212 (hp_mono.c hm208 (hp_mono.c hm204 (hp_mono.c hm200 (hp_mono.c hm196 (hp_mono.c hm192 (hp_mono.c hm188 (hp_mono.c hm184 (hp_mono.c hm180 (hp_mono.c hm176 (hp_mono.c hm172 (hp_mono.c hm168 (hp_mono.c hm164 (hp_mono.c hm160 hc157))))))))))))))))))))))))))))))))))))))))) hi322 dX7_init_376 (rfl : 376 + 1 = 377) (fun S323 H locs e325 hm324 hR => ?_)
  have h := h S323 e325
  have hm := hp_mono.tr hm hm324
  refine hp_dup E hp_vc dX7_init_377 (rfl : 377 + 1 = 378) ?_
  refine hp_bipush E (42 : Int32) (by decide) dX7_init_378 (rfl : 378 + 2 = 380) ?_
  refine hp_bipush E (103 : Int32) (by decide) dX7_init_380 (rfl : 380 + 2 = 382) ?_
  obtain ⟨hi326, h⟩ := h
  refine hx_iast E hR (hp_mono.c hm324 (hp_mono.c hm320 (hp_mono.c hm316 (hp_mono.c hm312 (hp_mono.c hm308 (hp_mono.c hm304 (hp_mono.c hm300 (hp_mono.c hm296 (hp_mono.c hm292 (hp_mono.c hm288 (hp_mono.c hm284 (hp_mono.c hm280 (hp_mono.c hm276 (hp_mono.c hm272 (hp_mono.c hm268 (hp_mono.c hm264 (hp_mono.c hm260 (hp_mono.c hm256 (hp_mono.c hm252 (hp_mono.c hm248 (hp_mono.c hm244 (hp_mono.c hm240 (hp_mono.c hm236 (hp_mono.c hm232 (hp_mono.c hm228 (hp_mono.c hm224 (hp_mono.c hm220 (hp_mono.c hm216 (hp_mono.c hm212 (hp_mono.c hm208 (hp_mono.c hm204 (hp_mono.c hm200 (hp_mono.c hm196 (hp_mono.c hm192 (hp_mono.c hm188 (hp_mono.c hm184 (hp_mono.c hm180 (hp_mono.c hm176 (hp_mono.c hm172 (hp_mono.c hm168 (hp_mono.c hm164 (hp_mono.c hm160 hc157)))))))))))))))))))))))))))))))))))))))))) hi326 dX7_init_382 (rfl : 382 + 1 = 383) (fun S327 H locs e329 hm328 hR => ?_)
  have h := h S327 e329
  have hm := hp_mono.tr hm hm328
  refine hp_dup E hp_vc dX7_init_383 (rfl : 383 + 1 = 384) ?_
  refine hp_bipush E (43 : Int32) (by decide) dX7_init_384 (rfl : 384 + 2 = 386) ?_
  refine hp_bipush E (101 : Int32) (by decide) dX7_init_386 (rfl : 386 + 2 = 388) ?_
  obtain ⟨hi330, h⟩ := h
  refine hx_iast E hR (hp_mono.c hm328 (hp_mono.c hm324 (hp_mono.c hm320 (hp_mono.c hm316 (hp_mono.c hm312 (hp_mono.c hm308 (hp_mono.c hm304 (hp_mono.c hm300 (hp_mono.c hm296 (hp_mono.c hm292 (hp_mono.c hm288 (hp_mono.c hm284 (hp_mono.c hm280 (hp_mono.c hm276 (hp_mono.c hm272 (hp_mono.c hm268 (hp_mono.c hm264 (hp_mono.c hm260 (hp_mono.c hm256 (hp_mono.c hm252 (hp_mono.c hm248 (hp_mono.c hm244 (hp_mono.c hm240 (hp_mono.c hm236 (hp_mono.c hm232 (hp_mono.c hm228 (hp_mono.c hm224 (hp_mono.c hm220 (hp_mono.c hm216 (hp_mono.c hm212 (hp_mono.c hm208 (hp_mono.c hm204 (hp_mono.c hm200 (hp_mono.c hm196 (hp_mono.c hm192 (hp_mono.c hm188 (hp_mono.c hm184 (hp_mono.c hm180 (hp_mono.c hm176 (hp_mono.c hm172 (hp_mono.c hm168 (hp_mono.c hm164 (hp_mono.c hm160 hc157))))))))))))))))))))))))))))))))))))))))))) hi330 dX7_init_388 (rfl : 388 + 1 = 389) (fun S331 H locs e333 hm332 hR => ?_)
  have h := h S331 e333
  have hm := hp_mono.tr hm hm332
  refine hp_dup E hp_vc dX7_init_389 (rfl : 389 + 1 = 390) ?_
  refine hp_bipush E (44 : Int32) (by decide) dX7_init_390 (rfl : 390 + 2 = 392) ?_
  refine hp_bipush E (32 : Int32) (by decide) dX7_init_392 (rfl : 392 + 2 = 394) ?_
  obtain ⟨hi334, h⟩ := h
  refine hx_iast E hR (hp_mono.c hm332 (hp_mono.c hm328 (hp_mono.c hm324 (hp_mono.c hm320 (hp_mono.c hm316 (hp_mono.c hm312 (hp_mono.c hm308 (hp_mono.c hm304 (hp_mono.c hm300 (hp_mono.c hm296 (hp_mono.c hm292 (hp_mono.c hm288 (hp_mono.c hm284 (hp_mono.c hm280 (hp_mono.c hm276 (hp_mono.c hm272 (hp_mono.c hm268 (hp_mono.c hm264 (hp_mono.c hm260 (hp_mono.c hm256 (hp_mono.c hm252 (hp_mono.c hm248 (hp_mono.c hm244 (hp_mono.c hm240 (hp_mono.c hm236 (hp_mono.c hm232 (hp_mono.c hm228 (hp_mono.c hm224 (hp_mono.c hm220 (hp_mono.c hm216 (hp_mono.c hm212 (hp_mono.c hm208 (hp_mono.c hm204 (hp_mono.c hm200 (hp_mono.c hm196 (hp_mono.c hm192 (hp_mono.c hm188 (hp_mono.c hm184 (hp_mono.c hm180 (hp_mono.c hm176 (hp_mono.c hm172 (hp_mono.c hm168 (hp_mono.c hm164 (hp_mono.c hm160 hc157)))))))))))))))))))))))))))))))))))))))))))) hi334 dX7_init_394 (rfl : 394 + 1 = 395) (fun S335 H locs e337 hm336 hR => ?_)
  have h := h S335 e337
  have hm := hp_mono.tr hm hm336
  refine hp_dup E hp_vc dX7_init_395 (rfl : 395 + 1 = 396) ?_
  refine hp_bipush E (45 : Int32) (by decide) dX7_init_396 (rfl : 396 + 2 = 398) ?_
  refine hp_bipush E (99 : Int32) (by decide) dX7_init_398 (rfl : 398 + 2 = 400) ?_
  obtain ⟨hi338, h⟩ := h
  refine hx_iast E hR (hp_mono.c hm336 (hp_mono.c hm332 (hp_mono.c hm328 (hp_mono.c hm324 (hp_mono.c hm320 (hp_mono.c hm316 (hp_mono.c hm312 (hp_mono.c hm308 (hp_mono.c hm304 (hp_mono.c hm300 (hp_mono.c hm296 (hp_mono.c hm292 (hp_mono.c hm288 (hp_mono.c hm284 (hp_mono.c hm280 (hp_mono.c hm276 (hp_mono.c hm272 (hp_mono.c hm268 (hp_mono.c hm264 (hp_mono.c hm260 (hp_mono.c hm256 (hp_mono.c hm252 (hp_mono.c hm248 (hp_mono.c hm244 (hp_mono.c hm240 (hp_mono.c hm236 (hp_mono.c hm232 (hp_mono.c hm228 (hp_mono.c hm224 (hp_mono.c hm220 (hp_mono.c hm216 (hp_mono.c hm212 (hp_mono.c hm208 (hp_mono.c hm204 (hp_mono.c hm200 (hp_mono.c hm196 (hp_mono.c hm192 (hp_mono.c hm188 (hp_mono.c hm184 (hp_mono.c hm180 (hp_mono.c hm176 (hp_mono.c hm172 (hp_mono.c hm168 (hp_mono.c hm164 (hp_mono.c hm160 hc157))))))))))))))))))))))))))))))))))))))))))))) hi338 dX7_init_400 (rfl : 400 + 1 = 401) (fun S339 H locs e341 hm340 hR => ?_)
  have h := h S339 e341
  have hm := hp_mono.tr hm hm340
  refine hp_dup E hp_vc dX7_init_401 (rfl : 401 + 1 = 402) ?_
  refine hp_bipush E (46 : Int32) (by decide) dX7_init_402 (rfl : 402 + 2 = 404) ?_
  refine hp_bipush E (108 : Int32) (by decide) dX7_init_404 (rfl : 404 + 2 = 406) ?_
  obtain ⟨hi342, h⟩ := h
  refine hx_iast E hR (hp_mono.c hm340 (hp_mono.c hm336 (hp_mono.c hm332 (hp_mono.c hm328 (hp_mono.c hm324 (hp_mono.c hm320 (hp_mono.c hm316 (hp_mono.c hm312 (hp_mono.c hm308 (hp_mono.c hm304 (hp_mono.c hm300 (hp_mono.c hm296 (hp_mono.c hm292 (hp_mono.c hm288 (hp_mono.c hm284 (hp_mono.c hm280 (hp_mono.c hm276 (hp_mono.c hm272 (hp_mono.c hm268 (hp_mono.c hm264 (hp_mono.c hm260 (hp_mono.c hm256 (hp_mono.c hm252 (hp_mono.c hm248 (hp_mono.c hm244 (hp_mono.c hm240 (hp_mono.c hm236 (hp_mono.c hm232 (hp_mono.c hm228 (hp_mono.c hm224 (hp_mono.c hm220 (hp_mono.c hm216 (hp_mono.c hm212 (hp_mono.c hm208 (hp_mono.c hm204 (hp_mono.c hm200 (hp_mono.c hm196 (hp_mono.c hm192 (hp_mono.c hm188 (hp_mono.c hm184 (hp_mono.c hm180 (hp_mono.c hm176 (hp_mono.c hm172 (hp_mono.c hm168 (hp_mono.c hm164 (hp_mono.c hm160 hc157)))))))))))))))))))))))))))))))))))))))))))))) hi342 dX7_init_406 (rfl : 406 + 1 = 407) (fun S343 H locs e345 hm344 hR => ?_)
  have h := h S343 e345
  have hm := hp_mono.tr hm hm344
  refine hp_dup E hp_vc dX7_init_407 (rfl : 407 + 1 = 408) ?_
  refine hp_bipush E (47 : Int32) (by decide) dX7_init_408 (rfl : 408 + 2 = 410) ?_
  refine hp_bipush E (97 : Int32) (by decide) dX7_init_410 (rfl : 410 + 2 = 412) ?_
  obtain ⟨hi346, h⟩ := h
  refine hx_iast E hR (hp_mono.c hm344 (hp_mono.c hm340 (hp_mono.c hm336 (hp_mono.c hm332 (hp_mono.c hm328 (hp_mono.c hm324 (hp_mono.c hm320 (hp_mono.c hm316 (hp_mono.c hm312 (hp_mono.c hm308 (hp_mono.c hm304 (hp_mono.c hm300 (hp_mono.c hm296 (hp_mono.c hm292 (hp_mono.c hm288 (hp_mono.c hm284 (hp_mono.c hm280 (hp_mono.c hm276 (hp_mono.c hm272 (hp_mono.c hm268 (hp_mono.c hm264 (hp_mono.c hm260 (hp_mono.c hm256 (hp_mono.c hm252 (hp_mono.c hm248 (hp_mono.c hm244 (hp_mono.c hm240 (hp_mono.c hm236 (hp_mono.c hm232 (hp_mono.c hm228 (hp_mono.c hm224 (hp_mono.c hm220 (hp_mono.c hm216 (hp_mono.c hm212 (hp_mono.c hm208 (hp_mono.c hm204 (hp_mono.c hm200 (hp_mono.c hm196 (hp_mono.c hm192 (hp_mono.c hm188 (hp_mono.c hm184 (hp_mono.c hm180 (hp_mono.c hm176 (hp_mono.c hm172 (hp_mono.c hm168 (hp_mono.c hm164 (hp_mono.c hm160 hc157))))))))))))))))))))))))))))))))))))))))))))))) hi346 dX7_init_412 (rfl : 412 + 1 = 413) (fun S347 H locs e349 hm348 hR => ?_)
  have h := h S347 e349
  have hm := hp_mono.tr hm hm348
  refine hp_dup E hp_vc dX7_init_413 (rfl : 413 + 1 = 414) ?_
  refine hp_bipush E (48 : Int32) (by decide) dX7_init_414 (rfl : 414 + 2 = 416) ?_
  refine hp_bipush E (115 : Int32) (by decide) dX7_init_416 (rfl : 416 + 2 = 418) ?_
  obtain ⟨hi350, h⟩ := h
  refine hx_iast E hR (hp_mono.c hm348 (hp_mono.c hm344 (hp_mono.c hm340 (hp_mono.c hm336 (hp_mono.c hm332 (hp_mono.c hm328 (hp_mono.c hm324 (hp_mono.c hm320 (hp_mono.c hm316 (hp_mono.c hm312 (hp_mono.c hm308 (hp_mono.c hm304 (hp_mono.c hm300 (hp_mono.c hm296 (hp_mono.c hm292 (hp_mono.c hm288 (hp_mono.c hm284 (hp_mono.c hm280 (hp_mono.c hm276 (hp_mono.c hm272 (hp_mono.c hm268 (hp_mono.c hm264 (hp_mono.c hm260 (hp_mono.c hm256 (hp_mono.c hm252 (hp_mono.c hm248 (hp_mono.c hm244 (hp_mono.c hm240 (hp_mono.c hm236 (hp_mono.c hm232 (hp_mono.c hm228 (hp_mono.c hm224 (hp_mono.c hm220 (hp_mono.c hm216 (hp_mono.c hm212 (hp_mono.c hm208 (hp_mono.c hm204 (hp_mono.c hm200 (hp_mono.c hm196 (hp_mono.c hm192 (hp_mono.c hm188 (hp_mono.c hm184 (hp_mono.c hm180 (hp_mono.c hm176 (hp_mono.c hm172 (hp_mono.c hm168 (hp_mono.c hm164 (hp_mono.c hm160 hc157)))))))))))))))))))))))))))))))))))))))))))))))) hi350 dX7_init_418 (rfl : 418 + 1 = 419) (fun S351 H locs e353 hm352 hR => ?_)
  have h := h S351 e353
  have hm := hp_mono.tr hm hm352
  refine hp_dup E hp_vc dX7_init_419 (rfl : 419 + 1 = 420) ?_
  refine hp_bipush E (49 : Int32) (by decide) dX7_init_420 (rfl : 420 + 2 = 422) ?_
  refine hp_bipush E (115 : Int32) (by decide) dX7_init_422 (rfl : 422 + 2 = 424) ?_
  obtain ⟨hi354, h⟩ := h
  refine hx_iast E hR (hp_mono.c hm352 (hp_mono.c hm348 (hp_mono.c hm344 (hp_mono.c hm340 (hp_mono.c hm336 (hp_mono.c hm332 (hp_mono.c hm328 (hp_mono.c hm324 (hp_mono.c hm320 (hp_mono.c hm316 (hp_mono.c hm312 (hp_mono.c hm308 (hp_mono.c hm304 (hp_mono.c hm300 (hp_mono.c hm296 (hp_mono.c hm292 (hp_mono.c hm288 (hp_mono.c hm284 (hp_mono.c hm280 (hp_mono.c hm276 (hp_mono.c hm272 (hp_mono.c hm268 (hp_mono.c hm264 (hp_mono.c hm260 (hp_mono.c hm256 (hp_mono.c hm252 (hp_mono.c hm248 (hp_mono.c hm244 (hp_mono.c hm240 (hp_mono.c hm236 (hp_mono.c hm232 (hp_mono.c hm228 (hp_mono.c hm224 (hp_mono.c hm220 (hp_mono.c hm216 (hp_mono.c hm212 (hp_mono.c hm208 (hp_mono.c hm204 (hp_mono.c hm200 (hp_mono.c hm196 (hp_mono.c hm192 (hp_mono.c hm188 (hp_mono.c hm184 (hp_mono.c hm180 (hp_mono.c hm176 (hp_mono.c hm172 (hp_mono.c hm168 (hp_mono.c hm164 (hp_mono.c hm160 hc157))))))))))))))))))))))))))))))))))))))))))))))))) hi354 dX7_init_424 (rfl : 424 + 1 = 425) (fun S355 H locs e357 hm356 hR => ?_)
  have h := h S355 e357
  have hm := hp_mono.tr hm hm356
  refine hp_dup E hp_vc dX7_init_425 (rfl : 425 + 1 = 426) ?_
  refine hp_bipush E (50 : Int32) (by decide) dX7_init_426 (rfl : 426 + 2 = 428) ?_
  refine hp_bipush E (32 : Int32) (by decide) dX7_init_428 (rfl : 428 + 2 = 430) ?_
  obtain ⟨hi358, h⟩ := h
  refine hx_iast E hR (hp_mono.c hm356 (hp_mono.c hm352 (hp_mono.c hm348 (hp_mono.c hm344 (hp_mono.c hm340 (hp_mono.c hm336 (hp_mono.c hm332 (hp_mono.c hm328 (hp_mono.c hm324 (hp_mono.c hm320 (hp_mono.c hm316 (hp_mono.c hm312 (hp_mono.c hm308 (hp_mono.c hm304 (hp_mono.c hm300 (hp_mono.c hm296 (hp_mono.c hm292 (hp_mono.c hm288 (hp_mono.c hm284 (hp_mono.c hm280 (hp_mono.c hm276 (hp_mono.c hm272 (hp_mono.c hm268 (hp_mono.c hm264 (hp_mono.c hm260 (hp_mono.c hm256 (hp_mono.c hm252 (hp_mono.c hm248 (hp_mono.c hm244 (hp_mono.c hm240 (hp_mono.c hm236 (hp_mono.c hm232 (hp_mono.c hm228 (hp_mono.c hm224 (hp_mono.c hm220 (hp_mono.c hm216 (hp_mono.c hm212 (hp_mono.c hm208 (hp_mono.c hm204 (hp_mono.c hm200 (hp_mono.c hm196 (hp_mono.c hm192 (hp_mono.c hm188 (hp_mono.c hm184 (hp_mono.c hm180 (hp_mono.c hm176 (hp_mono.c hm172 (hp_mono.c hm168 (hp_mono.c hm164 (hp_mono.c hm160 hc157)))))))))))))))))))))))))))))))))))))))))))))))))) hi358 dX7_init_430 (rfl : 430 + 1 = 431) (fun S359 H locs e361 hm360 hR => ?_)
  have h := h S359 e361
  have hm := hp_mono.tr hm hm360
  refine hp_dup E hp_vc dX7_init_431 (rfl : 431 + 1 = 432) ?_
  refine hp_bipush E (51 : Int32) (by decide) dX7_init_432 (rfl : 432 + 2 = 434) ?_
  refine hp_bipush E (104 : Int32) (by decide) dX7_init_434 (rfl : 434 + 2 = 436) ?_
  obtain ⟨hi362, h⟩ := h
  refine hx_iast E hR (hp_mono.c hm360 (hp_mono.c hm356 (hp_mono.c hm352 (hp_mono.c hm348 (hp_mono.c hm344 (hp_mono.c hm340 (hp_mono.c hm336 (hp_mono.c hm332 (hp_mono.c hm328 (hp_mono.c hm324 (hp_mono.c hm320 (hp_mono.c hm316 (hp_mono.c hm312 (hp_mono.c hm308 (hp_mono.c hm304 (hp_mono.c hm300 (hp_mono.c hm296 (hp_mono.c hm292 (hp_mono.c hm288 (hp_mono.c hm284 (hp_mono.c hm280 (hp_mono.c hm276 (hp_mono.c hm272 (hp_mono.c hm268 (hp_mono.c hm264 (hp_mono.c hm260 (hp_mono.c hm256 (hp_mono.c hm252 (hp_mono.c hm248 (hp_mono.c hm244 (hp_mono.c hm240 (hp_mono.c hm236 (hp_mono.c hm232 (hp_mono.c hm228 (hp_mono.c hm224 (hp_mono.c hm220 (hp_mono.c hm216 (hp_mono.c hm212 (hp_mono.c hm208 (hp_mono.c hm204 (hp_mono.c hm200 (hp_mono.c hm196 (hp_mono.c hm192 (hp_mono.c hm188 (hp_mono.c hm184 (hp_mono.c hm180 (hp_mono.c hm176 (hp_mono.c hm172 (hp_mono.c hm168 (hp_mono.c hm164 (hp_mono.c hm160 hc157))))))))))))))))))))))))))))))))))))))))))))))))))) hi362 dX7_init_436 (rfl : 436 + 1 = 437) (fun S363 H locs e365 hm364 hR => ?_)
  have h := h S363 e365
  have hm := hp_mono.tr hm hm364
  refine hp_dup E hp_vc dX7_init_437 (rfl : 437 + 1 = 438) ?_
  refine hp_bipush E (52 : Int32) (by decide) dX7_init_438 (rfl : 438 + 2 = 440) ?_
  refine hp_bipush E (97 : Int32) (by decide) dX7_init_440 (rfl : 440 + 2 = 442) ?_
  obtain ⟨hi366, h⟩ := h
  refine hx_iast E hR (hp_mono.c hm364 (hp_mono.c hm360 (hp_mono.c hm356 (hp_mono.c hm352 (hp_mono.c hm348 (hp_mono.c hm344 (hp_mono.c hm340 (hp_mono.c hm336 (hp_mono.c hm332 (hp_mono.c hm328 (hp_mono.c hm324 (hp_mono.c hm320 (hp_mono.c hm316 (hp_mono.c hm312 (hp_mono.c hm308 (hp_mono.c hm304 (hp_mono.c hm300 (hp_mono.c hm296 (hp_mono.c hm292 (hp_mono.c hm288 (hp_mono.c hm284 (hp_mono.c hm280 (hp_mono.c hm276 (hp_mono.c hm272 (hp_mono.c hm268 (hp_mono.c hm264 (hp_mono.c hm260 (hp_mono.c hm256 (hp_mono.c hm252 (hp_mono.c hm248 (hp_mono.c hm244 (hp_mono.c hm240 (hp_mono.c hm236 (hp_mono.c hm232 (hp_mono.c hm228 (hp_mono.c hm224 (hp_mono.c hm220 (hp_mono.c hm216 (hp_mono.c hm212 (hp_mono.c hm208 (hp_mono.c hm204 (hp_mono.c hm200 (hp_mono.c hm196 (hp_mono.c hm192 (hp_mono.c hm188 (hp_mono.c hm184 (hp_mono.c hm180 (hp_mono.c hm176 (hp_mono.c hm172 (hp_mono.c hm168 (hp_mono.c hm164 (hp_mono.c hm160 hc157)))))))))))))))))))))))))))))))))))))))))))))))))))) hi366 dX7_init_442 (rfl : 442 + 1 = 443) (fun S367 H locs e369 hm368 hR => ?_)
  have h := h S367 e369
  have hm := hp_mono.tr hm hm368
  refine hp_dup E hp_vc dX7_init_443 (rfl : 443 + 1 = 444) ?_
  refine hp_bipush E (53 : Int32) (by decide) dX7_init_444 (rfl : 444 + 2 = 446) ?_
  refine hp_bipush E (108 : Int32) (by decide) dX7_init_446 (rfl : 446 + 2 = 448) ?_
  obtain ⟨hi370, h⟩ := h
  refine hx_iast E hR (hp_mono.c hm368 (hp_mono.c hm364 (hp_mono.c hm360 (hp_mono.c hm356 (hp_mono.c hm352 (hp_mono.c hm348 (hp_mono.c hm344 (hp_mono.c hm340 (hp_mono.c hm336 (hp_mono.c hm332 (hp_mono.c hm328 (hp_mono.c hm324 (hp_mono.c hm320 (hp_mono.c hm316 (hp_mono.c hm312 (hp_mono.c hm308 (hp_mono.c hm304 (hp_mono.c hm300 (hp_mono.c hm296 (hp_mono.c hm292 (hp_mono.c hm288 (hp_mono.c hm284 (hp_mono.c hm280 (hp_mono.c hm276 (hp_mono.c hm272 (hp_mono.c hm268 (hp_mono.c hm264 (hp_mono.c hm260 (hp_mono.c hm256 (hp_mono.c hm252 (hp_mono.c hm248 (hp_mono.c hm244 (hp_mono.c hm240 (hp_mono.c hm236 (hp_mono.c hm232 (hp_mono.c hm228 (hp_mono.c hm224 (hp_mono.c hm220 (hp_mono.c hm216 (hp_mono.c hm212 (hp_mono.c hm208 (hp_mono.c hm204 (hp_mono.c hm200 (hp_mono.c hm196 (hp_mono.c hm192 (hp_mono.c hm188 (hp_mono.c hm184 (hp_mono.c hm180 (hp_mono.c hm176 (hp_mono.c hm172 (hp_mono.c hm168 (hp_mono.c hm164 (hp_mono.c hm160 hc157))))))))))))))))))))))))))))))))))))))))))))))))))))) hi370 dX7_init_448 (rfl : 448 + 1 = 449) (fun S371 H locs e373 hm372 hR => ?_)
  have h := h S371 e373
  have hm := hp_mono.tr hm hm372
  refine hp_dup E hp_vc dX7_init_449 (rfl : 449 + 1 = 450) ?_
  refine hp_bipush E (54 : Int32) (by decide) dX7_init_450 (rfl : 450 + 2 = 452) ?_
  refine hp_bipush E (102 : Int32) (by decide) dX7_init_452 (rfl : 452 + 2 = 454) ?_
  obtain ⟨hi374, h⟩ := h
  refine hx_iast E hR (hp_mono.c hm372 (hp_mono.c hm368 (hp_mono.c hm364 (hp_mono.c hm360 (hp_mono.c hm356 (hp_mono.c hm352 (hp_mono.c hm348 (hp_mono.c hm344 (hp_mono.c hm340 (hp_mono.c hm336 (hp_mono.c hm332 (hp_mono.c hm328 (hp_mono.c hm324 (hp_mono.c hm320 (hp_mono.c hm316 (hp_mono.c hm312 (hp_mono.c hm308 (hp_mono.c hm304 (hp_mono.c hm300 (hp_mono.c hm296 (hp_mono.c hm292 (hp_mono.c hm288 (hp_mono.c hm284 (hp_mono.c hm280 (hp_mono.c hm276 (hp_mono.c hm272 (hp_mono.c hm268 (hp_mono.c hm264 (hp_mono.c hm260 (hp_mono.c hm256 (hp_mono.c hm252 (hp_mono.c hm248 (hp_mono.c hm244 (hp_mono.c hm240 (hp_mono.c hm236 (hp_mono.c hm232 (hp_mono.c hm228 (hp_mono.c hm224 (hp_mono.c hm220 (hp_mono.c hm216 (hp_mono.c hm212 (hp_mono.c hm208 (hp_mono.c hm204 (hp_mono.c hm200 (hp_mono.c hm196 (hp_mono.c hm192 (hp_mono.c hm188 (hp_mono.c hm184 (hp_mono.c hm180 (hp_mono.c hm176 (hp_mono.c hm172 (hp_mono.c hm168 (hp_mono.c hm164 (hp_mono.c hm160 hc157)))))))))))))))))))))))))))))))))))))))))))))))))))))) hi374 dX7_init_454 (rfl : 454 + 1 = 455) (fun S375 H locs e377 hm376 hR => ?_)
  have h := h S375 e377
  have hm := hp_mono.tr hm hm376
  refine hp_dup E hp_vc dX7_init_455 (rfl : 455 + 1 = 456) ?_
  refine hp_bipush E (55 : Int32) (by decide) dX7_init_456 (rfl : 456 + 2 = 458) ?_
  refine hp_bipush E (32 : Int32) (by decide) dX7_init_458 (rfl : 458 + 2 = 460) ?_
  obtain ⟨hi378, h⟩ := h
  refine hx_iast E hR (hp_mono.c hm376 (hp_mono.c hm372 (hp_mono.c hm368 (hp_mono.c hm364 (hp_mono.c hm360 (hp_mono.c hm356 (hp_mono.c hm352 (hp_mono.c hm348 (hp_mono.c hm344 (hp_mono.c hm340 (hp_mono.c hm336 (hp_mono.c hm332 (hp_mono.c hm328 (hp_mono.c hm324 (hp_mono.c hm320 (hp_mono.c hm316 (hp_mono.c hm312 (hp_mono.c hm308 (hp_mono.c hm304 (hp_mono.c hm300 (hp_mono.c hm296 (hp_mono.c hm292 (hp_mono.c hm288 (hp_mono.c hm284 (hp_mono.c hm280 (hp_mono.c hm276 (hp_mono.c hm272 (hp_mono.c hm268 (hp_mono.c hm264 (hp_mono.c hm260 (hp_mono.c hm256 (hp_mono.c hm252 (hp_mono.c hm248 (hp_mono.c hm244 (hp_mono.c hm240 (hp_mono.c hm236 (hp_mono.c hm232 (hp_mono.c hm228 (hp_mono.c hm224 (hp_mono.c hm220 (hp_mono.c hm216 (hp_mono.c hm212 (hp_mono.c hm208 (hp_mono.c hm204 (hp_mono.c hm200 (hp_mono.c hm196 (hp_mono.c hm192 (hp_mono.c hm188 (hp_mono.c hm184 (hp_mono.c hm180 (hp_mono.c hm176 (hp_mono.c hm172 (hp_mono.c hm168 (hp_mono.c hm164 (hp_mono.c hm160 hc157))))))))))))))))))))))))))))))))))))))))))))))))))))))) hi378 dX7_init_460 (rfl : 460 + 1 = 461) (fun S379 H locs e381 hm380 hR => ?_)
  have h := h S379 e381
  have hm := hp_mono.tr hm hm380
  refine hp_dup E hp_vc dX7_init_461 (rfl : 461 + 1 = 462) ?_
  refine hp_bipush E (56 : Int32) (by decide) dX7_init_462 (rfl : 462 + 2 = 464) ?_
  refine hp_bipush E (106 : Int32) (by decide) dX7_init_464 (rfl : 464 + 2 = 466) ?_
  obtain ⟨hi382, h⟩ := h
  refine hx_iast E hR (hp_mono.c hm380 (hp_mono.c hm376 (hp_mono.c hm372 (hp_mono.c hm368 (hp_mono.c hm364 (hp_mono.c hm360 (hp_mono.c hm356 (hp_mono.c hm352 (hp_mono.c hm348 (hp_mono.c hm344 (hp_mono.c hm340 (hp_mono.c hm336 (hp_mono.c hm332 (hp_mono.c hm328 (hp_mono.c hm324 (hp_mono.c hm320 (hp_mono.c hm316 (hp_mono.c hm312 (hp_mono.c hm308 (hp_mono.c hm304 (hp_mono.c hm300 (hp_mono.c hm296 (hp_mono.c hm292 (hp_mono.c hm288 (hp_mono.c hm284 (hp_mono.c hm280 (hp_mono.c hm276 (hp_mono.c hm272 (hp_mono.c hm268 (hp_mono.c hm264 (hp_mono.c hm260 (hp_mono.c hm256 (hp_mono.c hm252 (hp_mono.c hm248 (hp_mono.c hm244 (hp_mono.c hm240 (hp_mono.c hm236 (hp_mono.c hm232 (hp_mono.c hm228 (hp_mono.c hm224 (hp_mono.c hm220 (hp_mono.c hm216 (hp_mono.c hm212 (hp_mono.c hm208 (hp_mono.c hm204 (hp_mono.c hm200 (hp_mono.c hm196 (hp_mono.c hm192 (hp_mono.c hm188 (hp_mono.c hm184 (hp_mono.c hm180 (hp_mono.c hm176 (hp_mono.c hm172 (hp_mono.c hm168 (hp_mono.c hm164 (hp_mono.c hm160 hc157)))))))))))))))))))))))))))))))))))))))))))))))))))))))) hi382 dX7_init_466 (rfl : 466 + 1 = 467) (fun S383 H locs e385 hm384 hR => ?_)
  have h := h S383 e385
  have hm := hp_mono.tr hm hm384
  refine hp_dup E hp_vc dX7_init_467 (rfl : 467 + 1 = 468) ?_
  refine hp_bipush E (57 : Int32) (by decide) dX7_init_468 (rfl : 468 + 2 = 470) ?_
  refine hp_bipush E (111 : Int32) (by decide) dX7_init_470 (rfl : 470 + 2 = 472) ?_
  obtain ⟨hi386, h⟩ := h
  refine hx_iast E hR (hp_mono.c hm384 (hp_mono.c hm380 (hp_mono.c hm376 (hp_mono.c hm372 (hp_mono.c hm368 (hp_mono.c hm364 (hp_mono.c hm360 (hp_mono.c hm356 (hp_mono.c hm352 (hp_mono.c hm348 (hp_mono.c hm344 (hp_mono.c hm340 (hp_mono.c hm336 (hp_mono.c hm332 (hp_mono.c hm328 (hp_mono.c hm324 (hp_mono.c hm320 (hp_mono.c hm316 (hp_mono.c hm312 (hp_mono.c hm308 (hp_mono.c hm304 (hp_mono.c hm300 (hp_mono.c hm296 (hp_mono.c hm292 (hp_mono.c hm288 (hp_mono.c hm284 (hp_mono.c hm280 (hp_mono.c hm276 (hp_mono.c hm272 (hp_mono.c hm268 (hp_mono.c hm264 (hp_mono.c hm260 (hp_mono.c hm256 (hp_mono.c hm252 (hp_mono.c hm248 (hp_mono.c hm244 (hp_mono.c hm240 (hp_mono.c hm236 (hp_mono.c hm232 (hp_mono.c hm228 (hp_mono.c hm224 (hp_mono.c hm220 (hp_mono.c hm216 (hp_mono.c hm212 (hp_mono.c hm208 (hp_mono.c hm204 (hp_mono.c hm200 (hp_mono.c hm196 (hp_mono.c hm192 (hp_mono.c hm188 (hp_mono.c hm184 (hp_mono.c hm180 (hp_mono.c hm176 (hp_mono.c hm172 (hp_mono.c hm168 (hp_mono.c hm164 (hp_mono.c hm160 hc157))))))))))))))))))))))))))))))))))))))))))))))))))))))))) hi386 dX7_init_472 (rfl : 472 + 1 = 473) (fun S387 H locs e389 hm388 hR => ?_)
  have h := h S387 e389
  have hm := hp_mono.tr hm hm388
  refine hp_dup E hp_vc dX7_init_473 (rfl : 473 + 1 = 474) ?_
  refine hp_bipush E (58 : Int32) (by decide) dX7_init_474 (rfl : 474 + 2 = 476) ?_
  refine hp_bipush E (105 : Int32) (by decide) dX7_init_476 (rfl : 476 + 2 = 478) ?_
  obtain ⟨hi390, h⟩ := h
  refine hx_iast E hR (hp_mono.c hm388 (hp_mono.c hm384 (hp_mono.c hm380 (hp_mono.c hm376 (hp_mono.c hm372 (hp_mono.c hm368 (hp_mono.c hm364 (hp_mono.c hm360 (hp_mono.c hm356 (hp_mono.c hm352 (hp_mono.c hm348 (hp_mono.c hm344 (hp_mono.c hm340 (hp_mono.c hm336 (hp_mono.c hm332 (hp_mono.c hm328 (hp_mono.c hm324 (hp_mono.c hm320 (hp_mono.c hm316 (hp_mono.c hm312 (hp_mono.c hm308 (hp_mono.c hm304 (hp_mono.c hm300 (hp_mono.c hm296 (hp_mono.c hm292 (hp_mono.c hm288 (hp_mono.c hm284 (hp_mono.c hm280 (hp_mono.c hm276 (hp_mono.c hm272 (hp_mono.c hm268 (hp_mono.c hm264 (hp_mono.c hm260 (hp_mono.c hm256 (hp_mono.c hm252 (hp_mono.c hm248 (hp_mono.c hm244 (hp_mono.c hm240 (hp_mono.c hm236 (hp_mono.c hm232 (hp_mono.c hm228 (hp_mono.c hm224 (hp_mono.c hm220 (hp_mono.c hm216 (hp_mono.c hm212 (hp_mono.c hm208 (hp_mono.c hm204 (hp_mono.c hm200 (hp_mono.c hm196 (hp_mono.c hm192 (hp_mono.c hm188 (hp_mono.c hm184 (hp_mono.c hm180 (hp_mono.c hm176 (hp_mono.c hm172 (hp_mono.c hm168 (hp_mono.c hm164 (hp_mono.c hm160 hc157)))))))))))))))))))))))))))))))))))))))))))))))))))))))))) hi390 dX7_init_478 (rfl : 478 + 1 = 479) (fun S391 H locs e393 hm392 hR => ?_)
  have h := h S391 e393
  have hm := hp_mono.tr hm hm392
  refine hp_dup E hp_vc dX7_init_479 (rfl : 479 + 1 = 480) ?_
  refine hp_bipush E (59 : Int32) (by decide) dX7_init_480 (rfl : 480 + 2 = 482) ?_
  refine hp_bipush E (110 : Int32) (by decide) dX7_init_482 (rfl : 482 + 2 = 484) ?_
  obtain ⟨hi394, h⟩ := h
  refine hx_iast E hR (hp_mono.c hm392 (hp_mono.c hm388 (hp_mono.c hm384 (hp_mono.c hm380 (hp_mono.c hm376 (hp_mono.c hm372 (hp_mono.c hm368 (hp_mono.c hm364 (hp_mono.c hm360 (hp_mono.c hm356 (hp_mono.c hm352 (hp_mono.c hm348 (hp_mono.c hm344 (hp_mono.c hm340 (hp_mono.c hm336 (hp_mono.c hm332 (hp_mono.c hm328 (hp_mono.c hm324 (hp_mono.c hm320 (hp_mono.c hm316 (hp_mono.c hm312 (hp_mono.c hm308 (hp_mono.c hm304 (hp_mono.c hm300 (hp_mono.c hm296 (hp_mono.c hm292 (hp_mono.c hm288 (hp_mono.c hm284 (hp_mono.c hm280 (hp_mono.c hm276 (hp_mono.c hm272 (hp_mono.c hm268 (hp_mono.c hm264 (hp_mono.c hm260 (hp_mono.c hm256 (hp_mono.c hm252 (hp_mono.c hm248 (hp_mono.c hm244 (hp_mono.c hm240 (hp_mono.c hm236 (hp_mono.c hm232 (hp_mono.c hm228 (hp_mono.c hm224 (hp_mono.c hm220 (hp_mono.c hm216 (hp_mono.c hm212 (hp_mono.c hm208 (hp_mono.c hm204 (hp_mono.c hm200 (hp_mono.c hm196 (hp_mono.c hm192 (hp_mono.c hm188 (hp_mono.c hm184 (hp_mono.c hm180 (hp_mono.c hm176 (hp_mono.c hm172 (hp_mono.c hm168 (hp_mono.c hm164 (hp_mono.c hm160 hc157))))))))))))))))))))))))))))))))))))))))))))))))))))))))))) hi394 dX7_init_484 (rfl : 484 + 1 = 485) (fun S395 H locs e397 hm396 hR => ?_)
  have h := h S395 e397
  have hm := hp_mono.tr hm hm396
  refine hp_dup E hp_vc dX7_init_485 (rfl : 485 + 1 = 486) ?_
  refine hp_bipush E (60 : Int32) (by decide) dX7_init_486 (rfl : 486 + 2 = 488) ?_
  refine hp_bipush E (116 : Int32) (by decide) dX7_init_488 (rfl : 488 + 2 = 490) ?_
  obtain ⟨hi398, h⟩ := h
  refine hx_iast E hR (hp_mono.c hm396 (hp_mono.c hm392 (hp_mono.c hm388 (hp_mono.c hm384 (hp_mono.c hm380 (hp_mono.c hm376 (hp_mono.c hm372 (hp_mono.c hm368 (hp_mono.c hm364 (hp_mono.c hm360 (hp_mono.c hm356 (hp_mono.c hm352 (hp_mono.c hm348 (hp_mono.c hm344 (hp_mono.c hm340 (hp_mono.c hm336 (hp_mono.c hm332 (hp_mono.c hm328 (hp_mono.c hm324 (hp_mono.c hm320 (hp_mono.c hm316 (hp_mono.c hm312 (hp_mono.c hm308 (hp_mono.c hm304 (hp_mono.c hm300 (hp_mono.c hm296 (hp_mono.c hm292 (hp_mono.c hm288 (hp_mono.c hm284 (hp_mono.c hm280 (hp_mono.c hm276 (hp_mono.c hm272 (hp_mono.c hm268 (hp_mono.c hm264 (hp_mono.c hm260 (hp_mono.c hm256 (hp_mono.c hm252 (hp_mono.c hm248 (hp_mono.c hm244 (hp_mono.c hm240 (hp_mono.c hm236 (hp_mono.c hm232 (hp_mono.c hm228 (hp_mono.c hm224 (hp_mono.c hm220 (hp_mono.c hm216 (hp_mono.c hm212 (hp_mono.c hm208 (hp_mono.c hm204 (hp_mono.c hm200 (hp_mono.c hm196 (hp_mono.c hm192 (hp_mono.c hm188 (hp_mono.c hm184 (hp_mono.c hm180 (hp_mono.c hm176 (hp_mono.c hm172 (hp_mono.c hm168 (hp_mono.c hm164 (hp_mono.c hm160 hc157)))))))))))))))))))))))))))))))))))))))))))))))))))))))))))) hi398 dX7_init_490 (rfl : 490 + 1 = 491) (fun S399 H locs e401 hm400 hR => ?_)
  have h := h S399 e401
  have hm := hp_mono.tr hm hm400
  refine hp_dup E hp_vc dX7_init_491 (rfl : 491 + 1 = 492) ?_
  refine hp_bipush E (61 : Int32) (by decide) dX7_init_492 (rfl : 492 + 2 = 494) ?_
  refine hp_bipush E (32 : Int32) (by decide) dX7_init_494 (rfl : 494 + 2 = 496) ?_
  obtain ⟨hi402, h⟩ := h
  refine hx_iast E hR (hp_mono.c hm400 (hp_mono.c hm396 (hp_mono.c hm392 (hp_mono.c hm388 (hp_mono.c hm384 (hp_mono.c hm380 (hp_mono.c hm376 (hp_mono.c hm372 (hp_mono.c hm368 (hp_mono.c hm364 (hp_mono.c hm360 (hp_mono.c hm356 (hp_mono.c hm352 (hp_mono.c hm348 (hp_mono.c hm344 (hp_mono.c hm340 (hp_mono.c hm336 (hp_mono.c hm332 (hp_mono.c hm328 (hp_mono.c hm324 (hp_mono.c hm320 (hp_mono.c hm316 (hp_mono.c hm312 (hp_mono.c hm308 (hp_mono.c hm304 (hp_mono.c hm300 (hp_mono.c hm296 (hp_mono.c hm292 (hp_mono.c hm288 (hp_mono.c hm284 (hp_mono.c hm280 (hp_mono.c hm276 (hp_mono.c hm272 (hp_mono.c hm268 (hp_mono.c hm264 (hp_mono.c hm260 (hp_mono.c hm256 (hp_mono.c hm252 (hp_mono.c hm248 (hp_mono.c hm244 (hp_mono.c hm240 (hp_mono.c hm236 (hp_mono.c hm232 (hp_mono.c hm228 (hp_mono.c hm224 (hp_mono.c hm220 (hp_mono.c hm216 (hp_mono.c hm212 (hp_mono.c hm208 (hp_mono.c hm204 (hp_mono.c hm200 (hp_mono.c hm196 (hp_mono.c hm192 (hp_mono.c hm188 (hp_mono.c hm184 (hp_mono.c hm180 (hp_mono.c hm176 (hp_mono.c hm172 (hp_mono.c hm168 (hp_mono.c hm164 (hp_mono.c hm160 hc157))))))))))))))))))))))))))))))))))))))))))))))))))))))))))))) hi402 dX7_init_496 (rfl : 496 + 1 = 497) (fun S403 H locs e405 hm404 hR => ?_)
  have h := h S403 e405
  have hm := hp_mono.tr hm hm404
  refine hp_dup E hp_vc dX7_init_497 (rfl : 497 + 1 = 498) ?_
  refine hp_bipush E (62 : Int32) (by decide) dX7_init_498 (rfl : 498 + 2 = 500) ?_
  refine hp_bipush E (115 : Int32) (by decide) dX7_init_500 (rfl : 500 + 2 = 502) ?_
  obtain ⟨hi406, h⟩ := h
  refine hx_iast E hR (hp_mono.c hm404 (hp_mono.c hm400 (hp_mono.c hm396 (hp_mono.c hm392 (hp_mono.c hm388 (hp_mono.c hm384 (hp_mono.c hm380 (hp_mono.c hm376 (hp_mono.c hm372 (hp_mono.c hm368 (hp_mono.c hm364 (hp_mono.c hm360 (hp_mono.c hm356 (hp_mono.c hm352 (hp_mono.c hm348 (hp_mono.c hm344 (hp_mono.c hm340 (hp_mono.c hm336 (hp_mono.c hm332 (hp_mono.c hm328 (hp_mono.c hm324 (hp_mono.c hm320 (hp_mono.c hm316 (hp_mono.c hm312 (hp_mono.c hm308 (hp_mono.c hm304 (hp_mono.c hm300 (hp_mono.c hm296 (hp_mono.c hm292 (hp_mono.c hm288 (hp_mono.c hm284 (hp_mono.c hm280 (hp_mono.c hm276 (hp_mono.c hm272 (hp_mono.c hm268 (hp_mono.c hm264 (hp_mono.c hm260 (hp_mono.c hm256 (hp_mono.c hm252 (hp_mono.c hm248 (hp_mono.c hm244 (hp_mono.c hm240 (hp_mono.c hm236 (hp_mono.c hm232 (hp_mono.c hm228 (hp_mono.c hm224 (hp_mono.c hm220 (hp_mono.c hm216 (hp_mono.c hm212 (hp_mono.c hm208 (hp_mono.c hm204 (hp_mono.c hm200 (hp_mono.c hm196 (hp_mono.c hm192 (hp_mono.c hm188 (hp_mono.c hm184 (hp_mono.c hm180 (hp_mono.c hm176 (hp_mono.c hm172 (hp_mono.c hm168 (hp_mono.c hm164 (hp_mono.c hm160 hc157)))))))))))))))))))))))))))))))))))))))))))))))))))))))))))))) hi406 dX7_init_502 (rfl : 502 + 1 = 503) (fun S407 H locs e409 hm408 hR => ?_)
  have h := h S407 e409
  have hm := hp_mono.tr hm hm408
  refine hp_dup E hp_vc dX7_init_503 (rfl : 503 + 1 = 504) ?_
  refine hp_bipush E (63 : Int32) (by decide) dX7_init_504 (rfl : 504 + 2 = 506) ?_
  refine hp_bipush E (105 : Int32) (by decide) dX7_init_506 (rfl : 506 + 2 = 508) ?_
  obtain ⟨hi410, h⟩ := h
  refine hx_iast E hR (hp_mono.c hm408 (hp_mono.c hm404 (hp_mono.c hm400 (hp_mono.c hm396 (hp_mono.c hm392 (hp_mono.c hm388 (hp_mono.c hm384 (hp_mono.c hm380 (hp_mono.c hm376 (hp_mono.c hm372 (hp_mono.c hm368 (hp_mono.c hm364 (hp_mono.c hm360 (hp_mono.c hm356 (hp_mono.c hm352 (hp_mono.c hm348 (hp_mono.c hm344 (hp_mono.c hm340 (hp_mono.c hm336 (hp_mono.c hm332 (hp_mono.c hm328 (hp_mono.c hm324 (hp_mono.c hm320 (hp_mono.c hm316 (hp_mono.c hm312 (hp_mono.c hm308 (hp_mono.c hm304 (hp_mono.c hm300 (hp_mono.c hm296 (hp_mono.c hm292 (hp_mono.c hm288 (hp_mono.c hm284 (hp_mono.c hm280 (hp_mono.c hm276 (hp_mono.c hm272 (hp_mono.c hm268 (hp_mono.c hm264 (hp_mono.c hm260 (hp_mono.c hm256 (hp_mono.c hm252 (hp_mono.c hm248 (hp_mono.c hm244 (hp_mono.c hm240 (hp_mono.c hm236 (hp_mono.c hm232 (hp_mono.c hm228 (hp_mono.c hm224 (hp_mono.c hm220 (hp_mono.c hm216 (hp_mono.c hm212 (hp_mono.c hm208 (hp_mono.c hm204 (hp_mono.c hm200 (hp_mono.c hm196 (hp_mono.c hm192 (hp_mono.c hm188 (hp_mono.c hm184 (hp_mono.c hm180 (hp_mono.c hm176 (hp_mono.c hm172 (hp_mono.c hm168 (hp_mono.c hm164 (hp_mono.c hm160 hc157))))))))))))))))))))))))))))))))))))))))))))))))))))))))))))))) hi410 dX7_init_508 (rfl : 508 + 1 = 509) (fun S411 H locs e413 hm412 hR => ?_)
  have h := h S411 e413
  have hm := hp_mono.tr hm hm412
  refine hp_dup E hp_vc dX7_init_509 (rfl : 509 + 1 = 510) ?_
  refine hp_bipush E (64 : Int32) (by decide) dX7_init_510 (rfl : 510 + 2 = 512) ?_
  refine hp_bipush E (110 : Int32) (by decide) dX7_init_512 (rfl : 512 + 2 = 514) ?_
  obtain ⟨hi414, h⟩ := h
  refine hx_iast E hR (hp_mono.c hm412 (hp_mono.c hm408 (hp_mono.c hm404 (hp_mono.c hm400 (hp_mono.c hm396 (hp_mono.c hm392 (hp_mono.c hm388 (hp_mono.c hm384 (hp_mono.c hm380 (hp_mono.c hm376 (hp_mono.c hm372 (hp_mono.c hm368 (hp_mono.c hm364 (hp_mono.c hm360 (hp_mono.c hm356 (hp_mono.c hm352 (hp_mono.c hm348 (hp_mono.c hm344 (hp_mono.c hm340 (hp_mono.c hm336 (hp_mono.c hm332 (hp_mono.c hm328 (hp_mono.c hm324 (hp_mono.c hm320 (hp_mono.c hm316 (hp_mono.c hm312 (hp_mono.c hm308 (hp_mono.c hm304 (hp_mono.c hm300 (hp_mono.c hm296 (hp_mono.c hm292 (hp_mono.c hm288 (hp_mono.c hm284 (hp_mono.c hm280 (hp_mono.c hm276 (hp_mono.c hm272 (hp_mono.c hm268 (hp_mono.c hm264 (hp_mono.c hm260 (hp_mono.c hm256 (hp_mono.c hm252 (hp_mono.c hm248 (hp_mono.c hm244 (hp_mono.c hm240 (hp_mono.c hm236 (hp_mono.c hm232 (hp_mono.c hm228 (hp_mono.c hm224 (hp_mono.c hm220 (hp_mono.c hm216 (hp_mono.c hm212 (hp_mono.c hm208 (hp_mono.c hm204 (hp_mono.c hm200 (hp_mono.c hm196 (hp_mono.c hm192 (hp_mono.c hm188 (hp_mono.c hm184 (hp_mono.c hm180 (hp_mono.c hm176 (hp_mono.c hm172 (hp_mono.c hm168 (hp_mono.c hm164 (hp_mono.c hm160 hc157)))))))))))))))))))))))))))))))))))))))))))))))))))))))))))))))) hi414 dX7_init_514 (rfl : 514 + 1 = 515) (fun S415 H locs e417 hm416 hR => ?_)
  have h := h S415 e417
  have hm := hp_mono.tr hm hm416
  refine hp_dup E hp_vc dX7_init_515 (rfl : 515 + 1 = 516) ?_
  refine hp_bipush E (65 : Int32) (by decide) dX7_init_516 (rfl : 516 + 2 = 518) ?_
  refine hp_bipush E (103 : Int32) (by decide) dX7_init_518 (rfl : 518 + 2 = 520) ?_
  obtain ⟨hi418, h⟩ := h
  refine hx_iast E hR (hp_mono.c hm416 (hp_mono.c hm412 (hp_mono.c hm408 (hp_mono.c hm404 (hp_mono.c hm400 (hp_mono.c hm396 (hp_mono.c hm392 (hp_mono.c hm388 (hp_mono.c hm384 (hp_mono.c hm380 (hp_mono.c hm376 (hp_mono.c hm372 (hp_mono.c hm368 (hp_mono.c hm364 (hp_mono.c hm360 (hp_mono.c hm356 (hp_mono.c hm352 (hp_mono.c hm348 (hp_mono.c hm344 (hp_mono.c hm340 (hp_mono.c hm336 (hp_mono.c hm332 (hp_mono.c hm328 (hp_mono.c hm324 (hp_mono.c hm320 (hp_mono.c hm316 (hp_mono.c hm312 (hp_mono.c hm308 (hp_mono.c hm304 (hp_mono.c hm300 (hp_mono.c hm296 (hp_mono.c hm292 (hp_mono.c hm288 (hp_mono.c hm284 (hp_mono.c hm280 (hp_mono.c hm276 (hp_mono.c hm272 (hp_mono.c hm268 (hp_mono.c hm264 (hp_mono.c hm260 (hp_mono.c hm256 (hp_mono.c hm252 (hp_mono.c hm248 (hp_mono.c hm244 (hp_mono.c hm240 (hp_mono.c hm236 (hp_mono.c hm232 (hp_mono.c hm228 (hp_mono.c hm224 (hp_mono.c hm220 (hp_mono.c hm216 (hp_mono.c hm212 (hp_mono.c hm208 (hp_mono.c hm204 (hp_mono.c hm200 (hp_mono.c hm196 (hp_mono.c hm192 (hp_mono.c hm188 (hp_mono.c hm184 (hp_mono.c hm180 (hp_mono.c hm176 (hp_mono.c hm172 (hp_mono.c hm168 (hp_mono.c hm164 (hp_mono.c hm160 hc157))))))))))))))))))))))))))))))))))))))))))))))))))))))))))))))))) hi418 dX7_init_520 (rfl : 520 + 1 = 521) (fun S419 H locs e421 hm420 hR => ?_)
  have h := h S419 e421
  have hm := hp_mono.tr hm hm420
  refine hp_dup E hp_vc dX7_init_521 (rfl : 521 + 1 = 522) ?_
  refine hp_bipush E (66 : Int32) (by decide) dX7_init_522 (rfl : 522 + 2 = 524) ?_
  refine hp_bipush E (108 : Int32) (by decide) dX7_init_524 (rfl : 524 + 2 = 526) ?_
  obtain ⟨hi422, h⟩ := h
  refine hx_iast E hR (hp_mono.c hm420 (hp_mono.c hm416 (hp_mono.c hm412 (hp_mono.c hm408 (hp_mono.c hm404 (hp_mono.c hm400 (hp_mono.c hm396 (hp_mono.c hm392 (hp_mono.c hm388 (hp_mono.c hm384 (hp_mono.c hm380 (hp_mono.c hm376 (hp_mono.c hm372 (hp_mono.c hm368 (hp_mono.c hm364 (hp_mono.c hm360 (hp_mono.c hm356 (hp_mono.c hm352 (hp_mono.c hm348 (hp_mono.c hm344 (hp_mono.c hm340 (hp_mono.c hm336 (hp_mono.c hm332 (hp_mono.c hm328 (hp_mono.c hm324 (hp_mono.c hm320 (hp_mono.c hm316 (hp_mono.c hm312 (hp_mono.c hm308 (hp_mono.c hm304 (hp_mono.c hm300 (hp_mono.c hm296 (hp_mono.c hm292 (hp_mono.c hm288 (hp_mono.c hm284 (hp_mono.c hm280 (hp_mono.c hm276 (hp_mono.c hm272 (hp_mono.c hm268 (hp_mono.c hm264 (hp_mono.c hm260 (hp_mono.c hm256 (hp_mono.c hm252 (hp_mono.c hm248 (hp_mono.c hm244 (hp_mono.c hm240 (hp_mono.c hm236 (hp_mono.c hm232 (hp_mono.c hm228 (hp_mono.c hm224 (hp_mono.c hm220 (hp_mono.c hm216 (hp_mono.c hm212 (hp_mono.c hm208 (hp_mono.c hm204 (hp_mono.c hm200 (hp_mono.c hm196 (hp_mono.c hm192 (hp_mono.c hm188 (hp_mono.c hm184 (hp_mono.c hm180 (hp_mono.c hm176 (hp_mono.c hm172 (hp_mono.c hm168 (hp_mono.c hm164 (hp_mono.c hm160 hc157)))))))))))))))))))))))))))))))))))))))))))))))))))))))))))))))))) hi422 dX7_init_526 (rfl : 526 + 1 = 527) (fun S423 H locs e425 hm424 hR => ?_)
  have h := h S423 e425
  have hm := hp_mono.tr hm hm424
  refine hp_dup E hp_vc dX7_init_527 (rfl : 527 + 1 = 528) ?_
  refine hp_bipush E (67 : Int32) (by decide) dX7_init_528 (rfl : 528 + 2 = 530) ?_
  refine hp_bipush E (101 : Int32) (by decide) dX7_init_530 (rfl : 530 + 2 = 532) ?_
  obtain ⟨hi426, h⟩ := h
  refine hx_iast E hR (hp_mono.c hm424 (hp_mono.c hm420 (hp_mono.c hm416 (hp_mono.c hm412 (hp_mono.c hm408 (hp_mono.c hm404 (hp_mono.c hm400 (hp_mono.c hm396 (hp_mono.c hm392 (hp_mono.c hm388 (hp_mono.c hm384 (hp_mono.c hm380 (hp_mono.c hm376 (hp_mono.c hm372 (hp_mono.c hm368 (hp_mono.c hm364 (hp_mono.c hm360 (hp_mono.c hm356 (hp_mono.c hm352 (hp_mono.c hm348 (hp_mono.c hm344 (hp_mono.c hm340 (hp_mono.c hm336 (hp_mono.c hm332 (hp_mono.c hm328 (hp_mono.c hm324 (hp_mono.c hm320 (hp_mono.c hm316 (hp_mono.c hm312 (hp_mono.c hm308 (hp_mono.c hm304 (hp_mono.c hm300 (hp_mono.c hm296 (hp_mono.c hm292 (hp_mono.c hm288 (hp_mono.c hm284 (hp_mono.c hm280 (hp_mono.c hm276 (hp_mono.c hm272 (hp_mono.c hm268 (hp_mono.c hm264 (hp_mono.c hm260 (hp_mono.c hm256 (hp_mono.c hm252 (hp_mono.c hm248 (hp_mono.c hm244 (hp_mono.c hm240 (hp_mono.c hm236 (hp_mono.c hm232 (hp_mono.c hm228 (hp_mono.c hm224 (hp_mono.c hm220 (hp_mono.c hm216 (hp_mono.c hm212 (hp_mono.c hm208 (hp_mono.c hm204 (hp_mono.c hm200 (hp_mono.c hm196 (hp_mono.c hm192 (hp_mono.c hm188 (hp_mono.c hm184 (hp_mono.c hm180 (hp_mono.c hm176 (hp_mono.c hm172 (hp_mono.c hm168 (hp_mono.c hm164 (hp_mono.c hm160 hc157))))))))))))))))))))))))))))))))))))))))))))))))))))))))))))))))))) hi426 dX7_init_532 (rfl : 532 + 1 = 533) (fun S427 H locs e429 hm428 hR => ?_)
  have h := h S427 e429
  have hm := hp_mono.tr hm hm428
  refine hp_dup E hp_vc dX7_init_533 (rfl : 533 + 1 = 534) ?_
  refine hp_bipush E (68 : Int32) (by decide) dX7_init_534 (rfl : 534 + 2 = 536) ?_
  refine hp_bipush E (32 : Int32) (by decide) dX7_init_536 (rfl : 536 + 2 = 538) ?_
  obtain ⟨hi430, h⟩ := h
  refine hx_iast E hR (hp_mono.c hm428 (hp_mono.c hm424 (hp_mono.c hm420 (hp_mono.c hm416 (hp_mono.c hm412 (hp_mono.c hm408 (hp_mono.c hm404 (hp_mono.c hm400 (hp_mono.c hm396 (hp_mono.c hm392 (hp_mono.c hm388 (hp_mono.c hm384 (hp_mono.c hm380 (hp_mono.c hm376 (hp_mono.c hm372 (hp_mono.c hm368 (hp_mono.c hm364 (hp_mono.c hm360 (hp_mono.c hm356 (hp_mono.c hm352 (hp_mono.c hm348 (hp_mono.c hm344 (hp_mono.c hm340 (hp_mono.c hm336 (hp_mono.c hm332 (hp_mono.c hm328 (hp_mono.c hm324 (hp_mono.c hm320 (hp_mono.c hm316 (hp_mono.c hm312 (hp_mono.c hm308 (hp_mono.c hm304 (hp_mono.c hm300 (hp_mono.c hm296 (hp_mono.c hm292 (hp_mono.c hm288 (hp_mono.c hm284 (hp_mono.c hm280 (hp_mono.c hm276 (hp_mono.c hm272 (hp_mono.c hm268 (hp_mono.c hm264 (hp_mono.c hm260 (hp_mono.c hm256 (hp_mono.c hm252 (hp_mono.c hm248 (hp_mono.c hm244 (hp_mono.c hm240 (hp_mono.c hm236 (hp_mono.c hm232 (hp_mono.c hm228 (hp_mono.c hm224 (hp_mono.c hm220 (hp_mono.c hm216 (hp_mono.c hm212 (hp_mono.c hm208 (hp_mono.c hm204 (hp_mono.c hm200 (hp_mono.c hm196 (hp_mono.c hm192 (hp_mono.c hm188 (hp_mono.c hm184 (hp_mono.c hm180 (hp_mono.c hm176 (hp_mono.c hm172 (hp_mono.c hm168 (hp_mono.c hm164 (hp_mono.c hm160 hc157)))))))))))))))))))))))))))))))))))))))))))))))))))))))))))))))))))) hi430 dX7_init_538 (rfl : 538 + 1 = 539) (fun S431 H locs e433 hm432 hR => ?_)
  have h := h S431 e433
  have hm := hp_mono.tr hm hm432
  refine hp_dup E hp_vc dX7_init_539 (rfl : 539 + 1 = 540) ?_
  refine hp_bipush E (69 : Int32) (by decide) dX7_init_540 (rfl : 540 + 2 = 542) ?_
  refine hp_bipush E (116 : Int32) (by decide) dX7_init_542 (rfl : 542 + 2 = 544) ?_
  obtain ⟨hi434, h⟩ := h
  refine hx_iast E hR (hp_mono.c hm432 (hp_mono.c hm428 (hp_mono.c hm424 (hp_mono.c hm420 (hp_mono.c hm416 (hp_mono.c hm412 (hp_mono.c hm408 (hp_mono.c hm404 (hp_mono.c hm400 (hp_mono.c hm396 (hp_mono.c hm392 (hp_mono.c hm388 (hp_mono.c hm384 (hp_mono.c hm380 (hp_mono.c hm376 (hp_mono.c hm372 (hp_mono.c hm368 (hp_mono.c hm364 (hp_mono.c hm360 (hp_mono.c hm356 (hp_mono.c hm352 (hp_mono.c hm348 (hp_mono.c hm344 (hp_mono.c hm340 (hp_mono.c hm336 (hp_mono.c hm332 (hp_mono.c hm328 (hp_mono.c hm324 (hp_mono.c hm320 (hp_mono.c hm316 (hp_mono.c hm312 (hp_mono.c hm308 (hp_mono.c hm304 (hp_mono.c hm300 (hp_mono.c hm296 (hp_mono.c hm292 (hp_mono.c hm288 (hp_mono.c hm284 (hp_mono.c hm280 (hp_mono.c hm276 (hp_mono.c hm272 (hp_mono.c hm268 (hp_mono.c hm264 (hp_mono.c hm260 (hp_mono.c hm256 (hp_mono.c hm252 (hp_mono.c hm248 (hp_mono.c hm244 (hp_mono.c hm240 (hp_mono.c hm236 (hp_mono.c hm232 (hp_mono.c hm228 (hp_mono.c hm224 (hp_mono.c hm220 (hp_mono.c hm216 (hp_mono.c hm212 (hp_mono.c hm208 (hp_mono.c hm204 (hp_mono.c hm200 (hp_mono.c hm196 (hp_mono.c hm192 (hp_mono.c hm188 (hp_mono.c hm184 (hp_mono.c hm180 (hp_mono.c hm176 (hp_mono.c hm172 (hp_mono.c hm168 (hp_mono.c hm164 (hp_mono.c hm160 hc157))))))))))))))))))))))))))))))))))))))))))))))))))))))))))))))))))))) hi434 dX7_init_544 (rfl : 544 + 1 = 545) (fun S435 H locs e437 hm436 hR => ?_)
  have h := h S435 e437
  have hm := hp_mono.tr hm hm436
  refine hp_dup E hp_vc dX7_init_545 (rfl : 545 + 1 = 546) ?_
  refine hp_bipush E (70 : Int32) (by decide) dX7_init_546 (rfl : 546 + 2 = 548) ?_
  refine hp_bipush E (111 : Int32) (by decide) dX7_init_548 (rfl : 548 + 2 = 550) ?_
  obtain ⟨hi438, h⟩ := h
  refine hx_iast E hR (hp_mono.c hm436 (hp_mono.c hm432 (hp_mono.c hm428 (hp_mono.c hm424 (hp_mono.c hm420 (hp_mono.c hm416 (hp_mono.c hm412 (hp_mono.c hm408 (hp_mono.c hm404 (hp_mono.c hm400 (hp_mono.c hm396 (hp_mono.c hm392 (hp_mono.c hm388 (hp_mono.c hm384 (hp_mono.c hm380 (hp_mono.c hm376 (hp_mono.c hm372 (hp_mono.c hm368 (hp_mono.c hm364 (hp_mono.c hm360 (hp_mono.c hm356 (hp_mono.c hm352 (hp_mono.c hm348 (hp_mono.c hm344 (hp_mono.c hm340 (hp_mono.c hm336 (hp_mono.c hm332 (hp_mono.c hm328 (hp_mono.c hm324 (hp_mono.c hm320 (hp_mono.c hm316 (hp_mono.c hm312 (hp_mono.c hm308 (hp_mono.c hm304 (hp_mono.c hm300 (hp_mono.c hm296 (hp_mono.c hm292 (hp_mono.c hm288 (hp_mono.c hm284 (hp_mono.c hm280 (hp_mono.c hm276 (hp_mono.c hm272 (hp_mono.c hm268 (hp_mono.c hm264 (hp_mono.c hm260 (hp_mono.c hm256 (hp_mono.c hm252 (hp_mono.c hm248 (hp_mono.c hm244 (hp_mono.c hm240 (hp_mono.c hm236 (hp_mono.c hm232 (hp_mono.c hm228 (hp_mono.c hm224 (hp_mono.c hm220 (hp_mono.c hm216 (hp_mono.c hm212 (hp_mono.c hm208 (hp_mono.c hm204 (hp_mono.c hm200 (hp_mono.c hm196 (hp_mono.c hm192 (hp_mono.c hm188 (hp_mono.c hm184 (hp_mono.c hm180 (hp_mono.c hm176 (hp_mono.c hm172 (hp_mono.c hm168 (hp_mono.c hm164 (hp_mono.c hm160 hc157)))))))))))))))))))))))))))))))))))))))))))))))))))))))))))))))))))))) hi438 dX7_init_550 (rfl : 550 + 1 = 551) (fun S439 H locs e441 hm440 hR => ?_)
  have h := h S439 e441
  have hm := hp_mono.tr hm hm440
  refine hp_dup E hp_vc dX7_init_551 (rfl : 551 + 1 = 552) ?_
  refine hp_bipush E (71 : Int32) (by decide) dX7_init_552 (rfl : 552 + 2 = 554) ?_
  refine hp_bipush E (32 : Int32) (by decide) dX7_init_554 (rfl : 554 + 2 = 556) ?_
  obtain ⟨hi442, h⟩ := h
  refine hx_iast E hR (hp_mono.c hm440 (hp_mono.c hm436 (hp_mono.c hm432 (hp_mono.c hm428 (hp_mono.c hm424 (hp_mono.c hm420 (hp_mono.c hm416 (hp_mono.c hm412 (hp_mono.c hm408 (hp_mono.c hm404 (hp_mono.c hm400 (hp_mono.c hm396 (hp_mono.c hm392 (hp_mono.c hm388 (hp_mono.c hm384 (hp_mono.c hm380 (hp_mono.c hm376 (hp_mono.c hm372 (hp_mono.c hm368 (hp_mono.c hm364 (hp_mono.c hm360 (hp_mono.c hm356 (hp_mono.c hm352 (hp_mono.c hm348 (hp_mono.c hm344 (hp_mono.c hm340 (hp_mono.c hm336 (hp_mono.c hm332 (hp_mono.c hm328 (hp_mono.c hm324 (hp_mono.c hm320 (hp_mono.c hm316 (hp_mono.c hm312 (hp_mono.c hm308 (hp_mono.c hm304 (hp_mono.c hm300 (hp_mono.c hm296 (hp_mono.c hm292 (hp_mono.c hm288 (hp_mono.c hm284 (hp_mono.c hm280 (hp_mono.c hm276 (hp_mono.c hm272 (hp_mono.c hm268 (hp_mono.c hm264 (hp_mono.c hm260 (hp_mono.c hm256 (hp_mono.c hm252 (hp_mono.c hm248 (hp_mono.c hm244 (hp_mono.c hm240 (hp_mono.c hm236 (hp_mono.c hm232 (hp_mono.c hm228 (hp_mono.c hm224 (hp_mono.c hm220 (hp_mono.c hm216 (hp_mono.c hm212 (hp_mono.c hm208 (hp_mono.c hm204 (hp_mono.c hm200 (hp_mono.c hm196 (hp_mono.c hm192 (hp_mono.c hm188 (hp_mono.c hm184 (hp_mono.c hm180 (hp_mono.c hm176 (hp_mono.c hm172 (hp_mono.c hm168 (hp_mono.c hm164 (hp_mono.c hm160 hc157))))))))))))))))))))))))))))))))))))))))))))))))))))))))))))))))))))))) hi442 dX7_init_556 (rfl : 556 + 1 = 557) (fun S443 H locs e445 hm444 hR => ?_)
  have h := h S443 e445
  have hm := hp_mono.tr hm hm444
  refine hp_dup E hp_vc dX7_init_557 (rfl : 557 + 1 = 558) ?_
  refine hp_bipush E (72 : Int32) (by decide) dX7_init_558 (rfl : 558 + 2 = 560) ?_
  refine hp_bipush E (111 : Int32) (by decide) dX7_init_560 (rfl : 560 + 2 = 562) ?_
  obtain ⟨hi446, h⟩ := h
  refine hx_iast E hR (hp_mono.c hm444 (hp_mono.c hm440 (hp_mono.c hm436 (hp_mono.c hm432 (hp_mono.c hm428 (hp_mono.c hm424 (hp_mono.c hm420 (hp_mono.c hm416 (hp_mono.c hm412 (hp_mono.c hm408 (hp_mono.c hm404 (hp_mono.c hm400 (hp_mono.c hm396 (hp_mono.c hm392 (hp_mono.c hm388 (hp_mono.c hm384 (hp_mono.c hm380 (hp_mono.c hm376 (hp_mono.c hm372 (hp_mono.c hm368 (hp_mono.c hm364 (hp_mono.c hm360 (hp_mono.c hm356 (hp_mono.c hm352 (hp_mono.c hm348 (hp_mono.c hm344 (hp_mono.c hm340 (hp_mono.c hm336 (hp_mono.c hm332 (hp_mono.c hm328 (hp_mono.c hm324 (hp_mono.c hm320 (hp_mono.c hm316 (hp_mono.c hm312 (hp_mono.c hm308 (hp_mono.c hm304 (hp_mono.c hm300 (hp_mono.c hm296 (hp_mono.c hm292 (hp_mono.c hm288 (hp_mono.c hm284 (hp_mono.c hm280 (hp_mono.c hm276 (hp_mono.c hm272 (hp_mono.c hm268 (hp_mono.c hm264 (hp_mono.c hm260 (hp_mono.c hm256 (hp_mono.c hm252 (hp_mono.c hm248 (hp_mono.c hm244 (hp_mono.c hm240 (hp_mono.c hm236 (hp_mono.c hm232 (hp_mono.c hm228 (hp_mono.c hm224 (hp_mono.c hm220 (hp_mono.c hm216 (hp_mono.c hm212 (hp_mono.c hm208 (hp_mono.c hm204 (hp_mono.c hm200 (hp_mono.c hm196 (hp_mono.c hm192 (hp_mono.c hm188 (hp_mono.c hm184 (hp_mono.c hm180 (hp_mono.c hm176 (hp_mono.c hm172 (hp_mono.c hm168 (hp_mono.c hm164 (hp_mono.c hm160 hc157)))))))))))))))))))))))))))))))))))))))))))))))))))))))))))))))))))))))) hi446 dX7_init_562 (rfl : 562 + 1 = 563) (fun S447 H locs e449 hm448 hR => ?_)
  have h := h S447 e449
  have hm := hp_mono.tr hm hm448
  refine hp_dup E hp_vc dX7_init_563 (rfl : 563 + 1 = 564) ?_
  refine hp_bipush E (73 : Int32) (by decide) dX7_init_564 (rfl : 564 + 2 = 566) ?_
  refine hp_bipush E (114 : Int32) (by decide) dX7_init_566 (rfl : 566 + 2 = 568) ?_
  obtain ⟨hi450, h⟩ := h
  refine hx_iast E hR (hp_mono.c hm448 (hp_mono.c hm444 (hp_mono.c hm440 (hp_mono.c hm436 (hp_mono.c hm432 (hp_mono.c hm428 (hp_mono.c hm424 (hp_mono.c hm420 (hp_mono.c hm416 (hp_mono.c hm412 (hp_mono.c hm408 (hp_mono.c hm404 (hp_mono.c hm400 (hp_mono.c hm396 (hp_mono.c hm392 (hp_mono.c hm388 (hp_mono.c hm384 (hp_mono.c hm380 (hp_mono.c hm376 (hp_mono.c hm372 (hp_mono.c hm368 (hp_mono.c hm364 (hp_mono.c hm360 (hp_mono.c hm356 (hp_mono.c hm352 (hp_mono.c hm348 (hp_mono.c hm344 (hp_mono.c hm340 (hp_mono.c hm336 (hp_mono.c hm332 (hp_mono.c hm328 (hp_mono.c hm324 (hp_mono.c hm320 (hp_mono.c hm316 (hp_mono.c hm312 (hp_mono.c hm308 (hp_mono.c hm304 (hp_mono.c hm300 (hp_mono.c hm296 (hp_mono.c hm292 (hp_mono.c hm288 (hp_mono.c hm284 (hp_mono.c hm280 (hp_mono.c hm276 (hp_mono.c hm272 (hp_mono.c hm268 (hp_mono.c hm264 (hp_mono.c hm260 (hp_mono.c hm256 (hp_mono.c hm252 (hp_mono.c hm248 (hp_mono.c hm244 (hp_mono.c hm240 (hp_mono.c hm236 (hp_mono.c hm232 (hp_mono.c hm228 (hp_mono.c hm224 (hp_mono.c hm220 (hp_mono.c hm216 (hp_mono.c hm212 (hp_mono.c hm208 (hp_mono.c hm204 (hp_mono.c hm200 (hp_mono.c hm196 (hp_mono.c hm192 (hp_mono.c hm188 (hp_mono.c hm184 (hp_mono.c hm180 (hp_mono.c hm176 (hp_mono.c hm172 (hp_mono.c hm168 (hp_mono.c hm164 (hp_mono.c hm160 hc157))))))))))))))))))))))))))))))))))))))))))))))))))))))))))))))))))))))))) hi450 dX7_init_568 (rfl : 568 + 1 = 569) (fun S451 H locs e453 hm452 hR => ?_)
  have h := h S451 e453
  have hm := hp_mono.tr hm hm452
  refine hp_dup E hp_vc dX7_init_569 (rfl : 569 + 1 = 570) ?_
  refine hp_bipush E (74 : Int32) (by decide) dX7_init_570 (rfl : 570 + 2 = 572) ?_
  refine hp_bipush E (32 : Int32) (by decide) dX7_init_572 (rfl : 572 + 2 = 574) ?_
  obtain ⟨hi454, h⟩ := h
  refine hx_iast E hR (hp_mono.c hm452 (hp_mono.c hm448 (hp_mono.c hm444 (hp_mono.c hm440 (hp_mono.c hm436 (hp_mono.c hm432 (hp_mono.c hm428 (hp_mono.c hm424 (hp_mono.c hm420 (hp_mono.c hm416 (hp_mono.c hm412 (hp_mono.c hm408 (hp_mono.c hm404 (hp_mono.c hm400 (hp_mono.c hm396 (hp_mono.c hm392 (hp_mono.c hm388 (hp_mono.c hm384 (hp_mono.c hm380 (hp_mono.c hm376 (hp_mono.c hm372 (hp_mono.c hm368 (hp_mono.c hm364 (hp_mono.c hm360 (hp_mono.c hm356 (hp_mono.c hm352 (hp_mono.c hm348 (hp_mono.c hm344 (hp_mono.c hm340 (hp_mono.c hm336 (hp_mono.c hm332 (hp_mono.c hm328 (hp_mono.c hm324 (hp_mono.c hm320 (hp_mono.c hm316 (hp_mono.c hm312 (hp_mono.c hm308 (hp_mono.c hm304 (hp_mono.c hm300 (hp_mono.c hm296 (hp_mono.c hm292 (hp_mono.c hm288 (hp_mono.c hm284 (hp_mono.c hm280 (hp_mono.c hm276 (hp_mono.c hm272 (hp_mono.c hm268 (hp_mono.c hm264 (hp_mono.c hm260 (hp_mono.c hm256 (hp_mono.c hm252 (hp_mono.c hm248 (hp_mono.c hm244 (hp_mono.c hm240 (hp_mono.c hm236 (hp_mono.c hm232 (hp_mono.c hm228 (hp_mono.c hm224 (hp_mono.c hm220 (hp_mono.c hm216 (hp_mono.c hm212 (hp_mono.c hm208 (hp_mono.c hm204 (hp_mono.c hm200 (hp_mono.c hm196 (hp_mono.c hm192 (hp_mono.c hm188 (hp_mono.c hm184 (hp_mono.c hm180 (hp_mono.c hm176 (hp_mono.c hm172 (hp_mono.c hm168 (hp_mono.c hm164 (hp_mono.c hm160 hc157)))))))))))))))))))))))))))))))))))))))))))))))))))))))))))))))))))))))))) hi454 dX7_init_574 (rfl : 574 + 1 = 575) (fun S455 H locs e457 hm456 hR => ?_)
  have h := h S455 e457
  have hm := hp_mono.tr hm hm456
  refine hx_putR E hR in_X7 tyX7 tyX7_ok nmX7 (hp_mono.c hm hc0) rfl 22 (Nat.le_of_ble_eq_true rfl) rfl q1283 (fun _ h => h) (Or.inr ⟨E.nmm, rfl⟩) rfl dX7_init_575 (rfl : 575 + 3 = 578) (fun S458 H locs e460 hm459 hR => ?_)
  have h := h S458 e460
  have hm := hp_mono.tr hm hm459
  refine hp_aload_n E hl 0 rfl 0 rfl dX7_init_578 (rfl : 578 + 1 = 579) ?_
  refine hp_iconst E (-1 : Int32) (by decide) dX7_init_579 (rfl : 579 + 1 = 580) ?_
  refine hx_putI E hR in_X7 tyX7 tyX7_ok nmX7 (hp_mono.c hm hc0) rfl 24 (Nat.le_of_ble_eq_true rfl) rfl q1285 (fun _ h => h) (Or.inl rfl) (Or.inl rfl) dX7_init_580 (rfl : 580 + 3 = 583) (fun S461 H locs e463 hm462 hR => ?_)
  have h := h S461 e463
  have hm := hp_mono.tr hm hm462
  refine hp_aload_n E hl 0 rfl 0 rfl dX7_init_583 (rfl : 583 + 1 = 584) ?_
  refine hp_bipush E (48 : Int32) (by decide) dX7_init_584 (rfl : 584 + 2 = 586) ?_
  refine hx_newa E hR (atype := .int) (ty := .int) rfl 50 0 rfl (Or.inl ⟨rfl, rfl⟩) q249 (N := 48) (by decide) (by decide) (Nat.le_of_ble_eq_true rfl) (Nat.le_of_ble_eq_true rfl) (Nat.le_of_ble_eq_true rfl) dX7_init_586 (rfl : 586 + 2 = 588) (fun n467 S464 H e468 e466 hf469 hm465 hc470 hR => ?_)
  have h := h n467 S464 e468 e466 hf469
  have hm := hp_mono.tr hm hm465
  refine hx_putR E hR in_X7 tyX7 tyX7_ok nmX7 (hp_mono.c hm hc0) rfl 30 (Nat.le_of_ble_eq_true rfl) rfl q1291 (fun _ h => h) (Or.inr ⟨E.nmm, rfl⟩) rfl dX7_init_588 (rfl : 588 + 3 = 591) (fun S471 H locs e473 hm472 hR => ?_)
  have h := h S471 e473
  have hm := hp_mono.tr hm hm472
  refine hp_aload_n E hl 0 rfl 0 rfl dX7_init_591 (rfl : 591 + 1 = 592) ?_
  refine hp_bipush E (48 : Int32) (by decide) dX7_init_592 (rfl : 592 + 2 = 594) ?_
  refine hx_newa E hR (atype := .int) (ty := .int) rfl 50 0 rfl (Or.inl ⟨rfl, rfl⟩) q249 (N := 48) (by decide) (by decide) (Nat.le_of_ble_eq_true rfl) (Nat.le_of_ble_eq_true rfl) (Nat.le_of_ble_eq_true rfl) dX7_init_594 (rfl : 594 + 2 = 596) (fun n477 S474 H e478 e476 hf479 hm475 hc480 hR => ?_)
  have h := h n477 S474 e478 e476 hf479
  have hm := hp_mono.tr hm hm475
  refine hx_putR E hR in_X7 tyX7 tyX7_ok nmX7 (hp_mono.c hm hc0) rfl 31 (Nat.le_of_ble_eq_true rfl) rfl q1292 (fun _ h => h) (Or.inr ⟨E.nmm, rfl⟩) rfl dX7_init_596 (rfl : 596 + 3 = 599) (fun S481 H locs e483 hm482 hR => ?_)
  have h := h S481 e483
  have hm := hp_mono.tr hm hm482
  refine hp_aload_n E hl 0 rfl 0 rfl dX7_init_599 (rfl : 599 + 1 = 600) ?_
  refine hp_bipush E (48 : Int32) (by decide) dX7_init_600 (rfl : 600 + 2 = 602) ?_
  refine hx_newa E hR (atype := .int) (ty := .int) rfl 50 0 rfl (Or.inl ⟨rfl, rfl⟩) q249 (N := 48) (by decide) (by decide) (Nat.le_of_ble_eq_true rfl) (Nat.le_of_ble_eq_true rfl) (Nat.le_of_ble_eq_true rfl) dX7_init_602 (rfl : 602 + 2 = 604) (fun n487 S484 H e488 e486 hf489 hm485 hc490 hR => ?_)
  have h := h n487 S484 e488 e486 hf489
  have hm := hp_mono.tr hm hm485
  refine hx_putR E hR in_X7 tyX7 tyX7_ok nmX7 (hp_mono.c hm hc0) rfl 32 (Nat.le_of_ble_eq_true rfl) rfl q1293 (fun _ h => h) (Or.inr ⟨E.nmm, rfl⟩) rfl dX7_init_604 (rfl : 604 + 3 = 607) (fun S491 H locs e493 hm492 hR => ?_)
  have h := h S491 e493
  have hm := hp_mono.tr hm hm492
  refine hp_aload_n E hl 0 rfl 0 rfl dX7_init_607 (rfl : 607 + 1 = 608) ?_
  refine hp_bipush E (48 : Int32) (by decide) dX7_init_608 (rfl : 608 + 2 = 610) ?_
  refine hx_newa E hR (atype := .int) (ty := .int) rfl 50 0 rfl (Or.inl ⟨rfl, rfl⟩) q249 (N := 48) (by decide) (by decide) (Nat.le_of_ble_eq_true rfl) (Nat.le_of_ble_eq_true rfl) (Nat.le_of_ble_eq_true rfl) dX7_init_610 (rfl : 610 + 2 = 612) (fun n497 S494 H e498 e496 hf499 hm495 hc500 hR => ?_)
  have h := h n497 S494 e498 e496 hf499
  have hm := hp_mono.tr hm hm495
  refine hx_putR E hR in_X7 tyX7 tyX7_ok nmX7 (hp_mono.c hm hc0) rfl 33 (Nat.le_of_ble_eq_true rfl) rfl q1294 (fun _ h => h) (Or.inr ⟨E.nmm, rfl⟩) rfl dX7_init_612 (rfl : 612 + 3 = 615) (fun S501 H locs e503 hm502 hR => ?_)
  have h := h S501 e503
  have hm := hp_mono.tr hm hm502
  refine hp_aload_n E hl 0 rfl 0 rfl dX7_init_615 (rfl : 615 + 1 = 616) ?_
  refine hp_bipush E (48 : Int32) (by decide) dX7_init_616 (rfl : 616 + 2 = 618) ?_
  refine hx_newa E hR (atype := .int) (ty := .int) rfl 50 0 rfl (Or.inl ⟨rfl, rfl⟩) q249 (N := 48) (by decide) (by decide) (Nat.le_of_ble_eq_true rfl) (Nat.le_of_ble_eq_true rfl) (Nat.le_of_ble_eq_true rfl) dX7_init_618 (rfl : 618 + 2 = 620) (fun n507 S504 H e508 e506 hf509 hm505 hc510 hR => ?_)
  have h := h n507 S504 e508 e506 hf509
  have hm := hp_mono.tr hm hm505
  refine hx_putR E hR in_X7 tyX7 tyX7_ok nmX7 (hp_mono.c hm hc0) rfl 34 (Nat.le_of_ble_eq_true rfl) rfl q1295 (fun _ h => h) (Or.inr ⟨E.nmm, rfl⟩) rfl dX7_init_620 (rfl : 620 + 3 = 623) (fun S511 H locs e513 hm512 hR => ?_)
  have h := h S511 e513
  have hm := hp_mono.tr hm hm512
  refine hp_aload_n E hl 0 rfl 0 rfl dX7_init_623 (rfl : 623 + 1 = 624) ?_
  refine hp_bipush E (48 : Int32) (by decide) dX7_init_624 (rfl : 624 + 2 = 626) ?_
  refine hx_newa E hR (atype := .int) (ty := .int) rfl 50 0 rfl (Or.inl ⟨rfl, rfl⟩) q249 (N := 48) (by decide) (by decide) (Nat.le_of_ble_eq_true rfl) (Nat.le_of_ble_eq_true rfl) (Nat.le_of_ble_eq_true rfl) dX7_init_626 (rfl : 626 + 2 = 628) (fun n517 S514 H e518 e516 hf519 hm515 hc520 hR => ?_)
  have h := h n517 S514 e518 e516 hf519
  have hm := hp_mono.tr hm hm515
  refine hx_putR E hR in_X7 tyX7 tyX7_ok nmX7 (hp_mono.c hm hc0) rfl 35 (Nat.le_of_ble_eq_true rfl) rfl q1296 (fun _ h => h) (Or.inr ⟨E.nmm, rfl⟩) rfl dX7_init_628 (rfl : 628 + 3 = 631) (fun S521 H locs e523 hm522 hR => ?_)
  have h := h S521 e523
  have hm := hp_mono.tr hm hm522
  refine hp_aload_n E hl 0 rfl 0 rfl dX7_init_631 (rfl : 631 + 1 = 632) ?_
  refine hp_bipush E (48 : Int32) (by decide) dX7_init_632 (rfl : 632 + 2 = 634) ?_
  refine hx_newa E hR (atype := .int) (ty := .int) rfl 50 0 rfl (Or.inl ⟨rfl, rfl⟩) q249 (N := 48) (by decide) (by decide) (Nat.le_of_ble_eq_true rfl) (Nat.le_of_ble_eq_true rfl) (Nat.le_of_ble_eq_true rfl) dX7_init_634 (rfl : 634 + 2 = 636) (fun n527 S524 H e528 e526 hf529 hm525 hc530 hR => ?_)
  have h := h n527 S524 e528 e526 hf529
  have hm := hp_mono.tr hm hm525
  refine hx_putR E hR in_X7 tyX7 tyX7_ok nmX7 (hp_mono.c hm hc0) rfl 36 (Nat.le_of_ble_eq_true rfl) rfl q1297 (fun _ h => h) (Or.inr ⟨E.nmm, rfl⟩) rfl dX7_init_636 (rfl : 636 + 3 = 639) (fun S531 H locs e533 hm532 hR => ?_)
  have h := h S531 e533
  have hm := hp_mono.tr hm hm532
  refine hp_aload_n E hl 0 rfl 0 rfl dX7_init_639 (rfl : 639 + 1 = 640) ?_
  refine hp_bipush E (48 : Int32) (by decide) dX7_init_640 (rfl : 640 + 2 = 642) ?_
  refine hx_newa E hR (atype := .int) (ty := .int) rfl 50 0 rfl (Or.inl ⟨rfl, rfl⟩) q249 (N := 48) (by decide) (by decide) (Nat.le_of_ble_eq_true rfl) (Nat.le_of_ble_eq_true rfl) (Nat.le_of_ble_eq_true rfl) dX7_init_642 (rfl : 642 + 2 = 644) (fun n537 S534 H e538 e536 hf539 hm535 hc540 hR => ?_)
  have h := h n537 S534 e538 e536 hf539
  have hm := hp_mono.tr hm hm535
  refine hx_putR E hR in_X7 tyX7 tyX7_ok nmX7 (hp_mono.c hm hc0) rfl 37 (Nat.le_of_ble_eq_true rfl) rfl q1298 (fun _ h => h) (Or.inr ⟨E.nmm, rfl⟩) rfl dX7_init_644 (rfl : 644 + 3 = 647) (fun S541 H locs e543 hm542 hR => ?_)
  have h := h S541 e543
  have hm := hp_mono.tr hm hm542
  refine hp_aload_n E hl 0 rfl 0 rfl dX7_init_647 (rfl : 647 + 1 = 648) ?_
  refine hp_bipush E (8 : Int32) (by decide) dX7_init_648 (rfl : 648 + 2 = 650) ?_
  refine hx_newa E hR (atype := .int) (ty := .int) rfl 50 0 rfl (Or.inl ⟨rfl, rfl⟩) q249 (N := 8) (by decide) (by decide) (Nat.le_of_ble_eq_true rfl) (Nat.le_of_ble_eq_true rfl) (Nat.le_of_ble_eq_true rfl) dX7_init_650 (rfl : 650 + 2 = 652) (fun n547 S544 H e548 e546 hf549 hm545 hc550 hR => ?_)
  have h := h n547 S544 e548 e546 hf549
  have hm := hp_mono.tr hm hm545
  refine hx_putR E hR in_X7 tyX7 tyX7_ok nmX7 (hp_mono.c hm hc0) rfl 40 (Nat.le_of_ble_eq_true rfl) rfl q1301 (fun _ h => h) (Or.inr ⟨E.nmm, rfl⟩) rfl dX7_init_652 (rfl : 652 + 3 = 655) (fun S551 H locs e553 hm552 hR => ?_)
  have h := h S551 e553
  have hm := hp_mono.tr hm hm552
  refine hp_aload_n E hl 0 rfl 0 rfl dX7_init_655 (rfl : 655 + 1 = 656) ?_
  refine hp_iconst E (4 : Int32) (by decide) dX7_init_656 (rfl : 656 + 1 = 657) ?_
  refine hx_newa E hR (atype := .boolean) (ty := .boolean) rfl 51 1 rfl (Or.inr (Or.inl ⟨rfl, rfl⟩)) q250 (N := 4) (by decide) (by decide) (Nat.le_of_ble_eq_true rfl) (Nat.le_of_ble_eq_true rfl) (Nat.le_of_ble_eq_true rfl) dX7_init_657 (rfl : 657 + 2 = 659) (fun n557 S554 H e558 e556 hf559 hm555 hc560 hR => ?_)
  have h := h n557 S554 e558 e556 hf559
  have hm := hp_mono.tr hm hm555
  refine hx_putR E hR in_X7 tyX7 tyX7_ok nmX7 (hp_mono.c hm hc0) rfl 41 (Nat.le_of_ble_eq_true rfl) rfl q1302 (fun _ h => h) (Or.inr ⟨E.nmm, rfl⟩) rfl dX7_init_659 (rfl : 659 + 3 = 662) (fun S561 H locs e563 hm562 hR => ?_)
  have h := h S561 e563
  have hm := hp_mono.tr hm hm562
  refine hp_aload_n E hl 0 rfl 0 rfl dX7_init_662 (rfl : 662 + 1 = 663) ?_
  refine hp_bipush E (60 : Int32) (by decide) dX7_init_663 (rfl : 663 + 2 = 665) ?_
  refine hx_newa E hR (atype := .boolean) (ty := .boolean) rfl 51 1 rfl (Or.inr (Or.inl ⟨rfl, rfl⟩)) q250 (N := 60) (by decide) (by decide) (Nat.le_of_ble_eq_true rfl) (Nat.le_of_ble_eq_true rfl) (Nat.le_of_ble_eq_true rfl) dX7_init_665 (rfl : 665 + 2 = 667) (fun n567 S564 H e568 e566 hf569 hm565 hc570 hR => ?_)
  have h := h n567 S564 e568 e566 hf569
  have hm := hp_mono.tr hm hm565
  refine hx_putR E hR in_X7 tyX7 tyX7_ok nmX7 (hp_mono.c hm hc0) rfl 44 (Nat.le_of_ble_eq_true rfl) rfl q1305 (fun _ h => h) (Or.inr ⟨E.nmm, rfl⟩) rfl dX7_init_667 (rfl : 667 + 3 = 670) (fun S571 H locs e573 hm572 hR => ?_)
  have h := h S571 e573
  have hm := hp_mono.tr hm hm572
  refine hp_aload_n E hl 0 rfl 0 rfl dX7_init_670 (rfl : 670 + 1 = 671) ?_
  refine hp_bipush E (12 : Int32) (by decide) dX7_init_671 (rfl : 671 + 2 = 673) ?_
  refine hx_newa E hR (atype := .int) (ty := .int) rfl 50 0 rfl (Or.inl ⟨rfl, rfl⟩) q249 (N := 12) (by decide) (by decide) (Nat.le_of_ble_eq_true rfl) (Nat.le_of_ble_eq_true rfl) (Nat.le_of_ble_eq_true rfl) dX7_init_673 (rfl : 673 + 2 = 675) (fun n577 S574 H e578 e576 hf579 hm575 hc580 hR => ?_)
  have h := h n577 S574 e578 e576 hf579
  have hm := hp_mono.tr hm hm575
  refine hx_putR E hR in_X7 tyX7 tyX7_ok nmX7 (hp_mono.c hm hc0) rfl 45 (Nat.le_of_ble_eq_true rfl) rfl q1306 (fun _ h => h) (Or.inr ⟨E.nmm, rfl⟩) rfl dX7_init_675 (rfl : 675 + 3 = 678) (fun S581 H locs e583 hm582 hR => ?_)
  have h := h S581 e583
  have hm := hp_mono.tr hm hm582
  refine hp_aload_n E hl 0 rfl 0 rfl dX7_init_678 (rfl : 678 + 1 = 679) ?_
  refine hp_sipush E (1280 : Int32) (by decide) dX7_init_679 (rfl : 679 + 3 = 682) ?_
  refine hx_newa E hR (atype := .int) (ty := .int) rfl 50 0 rfl (Or.inl ⟨rfl, rfl⟩) q249 (N := 1280) (by decide) (by decide) (Nat.le_of_ble_eq_true rfl) (Nat.le_of_ble_eq_true rfl) (Nat.le_of_ble_eq_true rfl) dX7_init_682 (rfl : 682 + 2 = 684) (fun n587 S584 H e588 e586 hf589 hm585 hc590 hR => ?_)
  have h := h n587 S584 e588 e586 hf589
  have hm := hp_mono.tr hm hm585
  refine hx_putR E hR in_X7 tyX7 tyX7_ok nmX7 (hp_mono.c hm hc0) rfl 46 (Nat.le_of_ble_eq_true rfl) rfl q1307 (fun _ h => h) (Or.inr ⟨E.nmm, rfl⟩) rfl dX7_init_684 (rfl : 684 + 3 = 687) (fun S591 H locs e593 hm592 hR => ?_)
  have h := h S591 e593
  have hm := hp_mono.tr hm hm592
  refine hp_aload_n E hl 0 rfl 0 rfl dX7_init_687 (rfl : 687 + 1 = 688) ?_
  refine hp_bipush E (8 : Int32) (by decide) dX7_init_688 (rfl : 688 + 2 = 690) ?_
  refine hx_newa E hR (atype := .int) (ty := .int) rfl 50 0 rfl (Or.inl ⟨rfl, rfl⟩) q249 (N := 8) (by decide) (by decide) (Nat.le_of_ble_eq_true rfl) (Nat.le_of_ble_eq_true rfl) (Nat.le_of_ble_eq_true rfl) dX7_init_690 (rfl : 690 + 2 = 692) (fun n597 S594 H e598 e596 hf599 hm595 hc600 hR => ?_)
  have h := h n597 S594 e598 e596 hf599
  have hm := hp_mono.tr hm hm595
  refine hx_putR E hR in_X7 tyX7 tyX7_ok nmX7 (hp_mono.c hm hc0) rfl 47 (Nat.le_of_ble_eq_true rfl) rfl q1308 (fun _ h => h) (Or.inr ⟨E.nmm, rfl⟩) rfl dX7_init_692 (rfl : 692 + 3 = 695) (fun S601 H locs e603 hm602 hR => ?_)
  have h := h S601 e603
  have hm := hp_mono.tr hm hm602
  refine hp_aload_n E hl 0 rfl 0 rfl dX7_init_695 (rfl : 695 + 1 = 696) ?_
  refine hp_bipush E (40 : Int32) (by decide) dX7_init_696 (rfl : 696 + 2 = 698) ?_
  refine hx_newa E hR (atype := .int) (ty := .int) rfl 50 0 rfl (Or.inl ⟨rfl, rfl⟩) q249 (N := 40) (by decide) (by decide) (Nat.le_of_ble_eq_true rfl) (Nat.le_of_ble_eq_true rfl) (Nat.le_of_ble_eq_true rfl) dX7_init_698 (rfl : 698 + 2 = 700) (fun n607 S604 H e608 e606 hf609 hm605 hc610 hR => ?_)
  have h := h n607 S604 e608 e606 hf609
  have hm := hp_mono.tr hm hm605
  refine hx_putR E hR in_X7 tyX7 tyX7_ok nmX7 (hp_mono.c hm hc0) rfl 51 (Nat.le_of_ble_eq_true rfl) rfl q1312 (fun _ h => h) (Or.inr ⟨E.nmm, rfl⟩) rfl dX7_init_700 (rfl : 700 + 3 = 703) (fun S611 H locs e613 hm612 hR => ?_)
  have h := h S611 e613
  have hm := hp_mono.tr hm hm612
  refine hp_aload_n E hl 0 rfl 0 rfl dX7_init_703 (rfl : 703 + 1 = 704) ?_
  refine hp_bipush E (12 : Int32) (by decide) dX7_init_704 (rfl : 704 + 2 = 706) ?_
  refine hx_newa E hR (atype := .int) (ty := .int) rfl 50 0 rfl (Or.inl ⟨rfl, rfl⟩) q249 (N := 12) (by decide) (by decide) (Nat.le_of_ble_eq_true rfl) (Nat.le_of_ble_eq_true rfl) (Nat.le_of_ble_eq_true rfl) dX7_init_706 (rfl : 706 + 2 = 708) (fun n617 S614 H e618 e616 hf619 hm615 hc620 hR => ?_)
  have h := h n617 S614 e618 e616 hf619
  have hm := hp_mono.tr hm hm615
  refine hx_putR E hR in_X7 tyX7 tyX7_ok nmX7 (hp_mono.c hm hc0) rfl 53 (Nat.le_of_ble_eq_true rfl) rfl q1314 (fun _ h => h) (Or.inr ⟨E.nmm, rfl⟩) rfl dX7_init_708 (rfl : 708 + 3 = 711) (fun S621 H locs e623 hm622 hR => ?_)
  have h := h S621 e623
  have hm := hp_mono.tr hm hm622
  refine hp_aload_n E hl 0 rfl 0 rfl dX7_init_711 (rfl : 711 + 1 = 712) ?_
  refine hp_bipush E (12 : Int32) (by decide) dX7_init_712 (rfl : 712 + 2 = 714) ?_
  refine hx_newa E hR (atype := .int) (ty := .int) rfl 50 0 rfl (Or.inl ⟨rfl, rfl⟩) q249 (N := 12) (by decide) (by decide) (Nat.le_of_ble_eq_true rfl) (Nat.le_of_ble_eq_true rfl) (Nat.le_of_ble_eq_true rfl) dX7_init_714 (rfl : 714 + 2 = 716) (fun n627 S624 H e628 e626 hf629 hm625 hc630 hR => ?_)
  have h := h n627 S624 e628 e626 hf629
  have hm := hp_mono.tr hm hm625
  refine hx_putR E hR in_X7 tyX7 tyX7_ok nmX7 (hp_mono.c hm hc0) rfl 54 (Nat.le_of_ble_eq_true rfl) rfl q1315 (fun _ h => h) (Or.inr ⟨E.nmm, rfl⟩) rfl dX7_init_716 (rfl : 716 + 3 = 719) (fun S631 H locs e633 hm632 hR => ?_)
  have h := h S631 e633
  have hm := hp_mono.tr hm hm632
  refine hp_aload_n E hl 0 rfl 0 rfl dX7_init_719 (rfl : 719 + 1 = 720) ?_
  refine hp_bipush E (12 : Int32) (by decide) dX7_init_720 (rfl : 720 + 2 = 722) ?_
  refine hx_newa E hR (atype := .int) (ty := .int) rfl 50 0 rfl (Or.inl ⟨rfl, rfl⟩) q249 (N := 12) (by decide) (by decide) (Nat.le_of_ble_eq_true rfl) (Nat.le_of_ble_eq_true rfl) (Nat.le_of_ble_eq_true rfl) dX7_init_722 (rfl : 722 + 2 = 724) (fun n637 S634 H e638 e636 hf639 hm635 hc640 hR => ?_)
  have h := h n637 S634 e638 e636 hf639
  have hm := hp_mono.tr hm hm635
  refine hx_putR E hR in_X7 tyX7 tyX7_ok nmX7 (hp_mono.c hm hc0) rfl 55 (Nat.le_of_ble_eq_true rfl) rfl q1316 (fun _ h => h) (Or.inr ⟨E.nmm, rfl⟩) rfl dX7_init_724 (rfl : 724 + 3 = 727) (fun S641 H locs e643 hm642 hR => ?_)
  have h := h S641 e643
  have hm := hp_mono.tr hm hm642
  refine hp_aload_n E hl 0 rfl 0 rfl dX7_init_727 (rfl : 727 + 1 = 728) ?_
  refine hp_bipush E (12 : Int32) (by decide) dX7_init_728 (rfl : 728 + 2 = 730) ?_
  refine hx_newa E hR (atype := .int) (ty := .int) rfl 50 0 rfl (Or.inl ⟨rfl, rfl⟩) q249 (N := 12) (by decide) (by decide) (Nat.le_of_ble_eq_true rfl) (Nat.le_of_ble_eq_true rfl) (Nat.le_of_ble_eq_true rfl) dX7_init_730 (rfl : 730 + 2 = 732) (fun n647 S644 H e648 e646 hf649 hm645 hc650 hR => ?_)
  have h := h n647 S644 e648 e646 hf649
  have hm := hp_mono.tr hm hm645
  refine hx_putR E hR in_X7 tyX7 tyX7_ok nmX7 (hp_mono.c hm hc0) rfl 56 (Nat.le_of_ble_eq_true rfl) rfl q1317 (fun _ h => h) (Or.inr ⟨E.nmm, rfl⟩) rfl dX7_init_732 (rfl : 732 + 3 = 735) (fun S651 H locs e653 hm652 hR => ?_)
  have h := h S651 e653
  have hm := hp_mono.tr hm hm652
  refine hp_aload_n E hl 0 rfl 0 rfl dX7_init_735 (rfl : 735 + 1 = 736) ?_
  refine hp_bipush E (12 : Int32) (by decide) dX7_init_736 (rfl : 736 + 2 = 738) ?_
  refine hx_newa E hR (atype := .int) (ty := .int) rfl 50 0 rfl (Or.inl ⟨rfl, rfl⟩) q249 (N := 12) (by decide) (by decide) (Nat.le_of_ble_eq_true rfl) (Nat.le_of_ble_eq_true rfl) (Nat.le_of_ble_eq_true rfl) dX7_init_738 (rfl : 738 + 2 = 740) (fun n657 S654 H e658 e656 hf659 hm655 hc660 hR => ?_)
  have h := h n657 S654 e658 e656 hf659
  have hm := hp_mono.tr hm hm655
  refine hx_putR E hR in_X7 tyX7 tyX7_ok nmX7 (hp_mono.c hm hc0) rfl 57 (Nat.le_of_ble_eq_true rfl) rfl q1318 (fun _ h => h) (Or.inr ⟨E.nmm, rfl⟩) rfl dX7_init_740 (rfl : 740 + 3 = 743) (fun S661 H locs e663 hm662 hR => ?_)
  have h := h S661 e663
  have hm := hp_mono.tr hm hm662
  refine hp_iconst E (0 : Int32) (by decide) dX7_init_743 (rfl : 743 + 1 = 744) ?_
  refine hp_istore_n E hl 1 rfl (lv' := [(0, hp_v B o)]) dX7_init_744 (rfl : 744 + 1 = 745) (by decide) (by simp [hp_vc, hp_ci, hp_cj]) (fun ls hl => ?_)
  exact b745 _ _ _ _ _ h (lv_sub hl [1, 0] rfl) hR hm
def wp_X7_thrown (o : Nat) (S : hp_St) (Q : Int32 → Prop) : Prop := Q (st_I S o 2)
theorem nf_X7_thrown : hp_nf yX7_thrown 0 = true := by decide +kernel
set_option maxHeartbeats 4000000 in
theorem m_X7_thrown {l : Launch} {B : Nat} {D : va_G} {s0 : State} {b0 : Nat} (G : hp_G l B D s0 b0) (o : Nat) (Si : hp_St) (Q : Int32 → Prop) (hc0 : st_C Si o = 7) (h : wp_X7_thrown o Si Q) : hp_M l B D s0 yX7_thrown cX7_thrown 1 (some .int) 2 128 0 0 [hp_v B o] Si (hp_Qi B D s0 (fun r S' => S' = Si ∧ Q r)) := by
  refine hp_start G (by decide +kernel) rfl rfl (lv := [(0, hp_v B o)]) (by simp [lg_sl, hp_vc, hp_ci, hp_cj]) (by simp [lv_args, hp_vc, hp_ci, hp_cj]) ?_
  intro p e s m args below meth c E ls hl hR
  unfold wp_X7_thrown at h
  refine hp_aload_n E hl 0 rfl 0 rfl dX7_thrown_0 (rfl : 0 + 1 = 1) ?_
  refine hp_getI E hR in_X7 hc0 rfl 2 (Nat.le_of_ble_eq_true rfl) rfl q1263 (fun _ h => h) dX7_thrown_1 (rfl : 1 + 3 = 4) ?_
  exact hp_iret E hR ⟨rfl, h⟩ (Nat.le_of_ble_eq_true rfl) (Nat.le_of_ble_eq_true rfl) dX7_thrown_4
def wb_X7_feed_76 (o : Nat) (a1 : Int32) (a2 : Int32) (a3 : Int32) (a4 : Int32) (a5 : Int32) (v6 : Int32) (t0 : Int32) (S : hp_St) (K23 : Int32 → hp_St → Prop) (Q : Int32 → hp_St → Prop) : Prop := (st_C S (st_R S o 0) = 50) ∧ (vp_in ((st_I S o 1) + v6) (st_L S (st_R S o 0))) ∧ (∀ S7603, S7603 = st_pI S (st_R S o 0) ((st_I S o 1) + v6).toNatClampNeg ((t0 >>> (((24 : Int32) - ((8 : Int32) * (v6 - v6 / (4 : Int32) * (4 : Int32)))) &&& 31)) &&& (255 : Int32)) → K23 (v6 + (1 : Int32)) S7603)
def wb_X7_feed_23 (o : Nat) (a1 : Int32) (a2 : Int32) (a3 : Int32) (a4 : Int32) (a5 : Int32) (v6 : Int32) (S : hp_St) (K23 : Int32 → hp_St → Prop) (Q : Int32 → hp_St → Prop) : Prop := (((v6 < (20 : Int32)) → (((v6 < (4 : Int32)) → wb_X7_feed_76 o a1 a2 a3 a4 a5 v6 a1 S K23 Q) ∧ ((¬ (v6 < (4 : Int32))) → (((v6 < (8 : Int32)) → wb_X7_feed_76 o a1 a2 a3 a4 a5 v6 a2 S K23 Q) ∧ ((¬ (v6 < (8 : Int32))) → (((v6 < (12 : Int32)) → wb_X7_feed_76 o a1 a2 a3 a4 a5 v6 a3 S K23 Q) ∧ ((¬ (v6 < (12 : Int32))) → (((v6 < (16 : Int32)) → wb_X7_feed_76 o a1 a2 a3 a4 a5 v6 a4 S K23 Q) ∧ ((¬ (v6 < (16 : Int32))) → wb_X7_feed_76 o a1 a2 a3 a4 a5 v6 a5 S K23 Q))))))))) ∧ ((¬ (v6 < (20 : Int32))) → (∀ S2301, S2301 = st_pI S o 1 ((st_I S o 1) + (20 : Int32)) → Q (st_I S2301 o 1) S2301)))
def wl_X7_feed_23 (o : Nat) (a1 : Int32) (a2 : Int32) (a3 : Int32) (a4 : Int32) (a5 : Int32) (v6 : Int32) (S : hp_St) (Q : Int32 → hp_St → Prop) : Prop := ∃ (I : Int32 → hp_St → Prop) (μ : Int32 → hp_St → Nat), I v6 S ∧ ∀ (v6 : Int32) (S1 : hp_St), hp_mono S S1 → I v6 S1 → wb_X7_feed_23 o a1 a2 a3 a4 a5 v6 S1 (fun v6' S2 => I v6' S2 ∧ μ v6' S2 < μ v6 S1) Q
def wp_X7_feed (o : Nat) (a1 : Int32) (a2 : Int32) (a3 : Int32) (a4 : Int32) (a5 : Int32) (S : hp_St) (Q : Int32 → hp_St → Prop) : Prop := (∀ S1, S1 = st_pI S o 2 (0 : Int32) → (((((st_I S1 o 1) + (20 : Int32)) ≤ (500 : Int32)) → wl_X7_feed_23 o a1 a2 a3 a4 a5 (0 : Int32) S1 Q) ∧ ((¬ (((st_I S1 o 1) + (20 : Int32)) ≤ (500 : Int32))) → Q (-1 : Int32) S1)))
theorem nf_X7_feed : hp_nf yX7_feed 5 = true := by decide +kernel
set_option maxHeartbeats 4000000 in
theorem m_X7_feed {l : Launch} {B : Nat} {D : va_G} {s0 : State} {b0 : Nat} (G : hp_G l B D s0 b0) (o : Nat) (a1 : Int32) (a2 : Int32) (a3 : Int32) (a4 : Int32) (a5 : Int32) (Si : hp_St) (Q : Int32 → hp_St → Prop) (hc0 : st_C Si o = 7) (h : wp_X7_feed o a1 a2 a3 a4 a5 Si Q) : hp_M l B D s0 yX7_feed cX7_feed 8 (some .int) 2 128 0 0 [hp_v B o, .int a1, .int a2, .int a3, .int a4, .int a5] Si (hp_Qi B D s0 (fun r S' => hp_mono Si S' ∧ Q r S')) := by
  refine hp_start G (by decide +kernel) rfl rfl (lv := [(0, hp_v B o), (1, .int a1), (2, .int a2), (3, .int a3), (4, .int a4), (5, .int a5)]) (by simp [lg_sl, hp_vc, hp_ci, hp_cj]) (by simp [lv_args, hp_vc, hp_ci, hp_cj]) ?_
  intro p e s m args below meth c E ls hl hR
  have hm : hp_mono Si Si := hp_mono.rf
  generalize hH : s.heap = H at hR ⊢
  generalize hLo : ([] : List Loc) = locs at hR ⊢
  have b23 : ∀ (v6 : Int32) (S : hp_St) (H : Heap) (locs : List Loc) (ls : Array Slot), wl_X7_feed_23 o a1 a2 a3 a4 a5 v6 S Q → lv_has ls 8 [(0, hp_v B o), (1, .int a1), (2, .int a2), (3, .int a3), (4, .int a4), (5, .int a5), (6, .int v6)] → hp_S B D s0 S H locs → hp_mono Si S → W p l e ({ frames := 2, cells := 0, slots := 0, locals := 128 } : Room) s m args below meth c H locs 0 0 (MQ below (hp_Qi B D s0 (fun r S' => hp_mono Si S' ∧ Q r S')) args s 0 0 (fun q => B < q)) (F0 m 23 ls []) := by
    intro v6 S H locs ls h hl hR hm
    obtain ⟨I23, μ23, hI, hst⟩ := h
    obtain ⟨Sa23, eSa23⟩ : ∃ x, x = S := ⟨_, rfl⟩
    subst eSa23
    have key23 : ∀ (N : Nat) (v6 : Int32) (Su23 : hp_St) (H : Heap) (locs : List Loc) (ls : Array Slot), μ23 v6 Su23 < N → I23 v6 Su23 → lv_has ls 8 [(0, hp_v B o), (1, .int a1), (2, .int a2), (3, .int a3), (4, .int a4), (5, .int a5), (6, .int v6)] → hp_S B D s0 Su23 H locs → hp_mono Sa23 Su23 → W p l e ({ frames := 2, cells := 0, slots := 0, locals := 128 } : Room) s m args below meth c H locs 0 0 (MQ below (hp_Qi B D s0 (fun r S' => hp_mono Si S' ∧ Q r S')) args s 0 0 (fun q => B < q)) (F0 m 23 ls []) := by
      intro N
      induction N with
      | zero =>
        intro v6 Su23 H locs ls hN
        exact absurd hN (Nat.not_lt_zero _)
      | succ N ih23 =>
        intro v6 Su23 H locs ls hN hI hl hR ms23
        have h := hst v6 Su23 ms23 hI
        have hm := hp_mono.tr hm ms23
        obtain ⟨K23, hKe23⟩ : ∃ K : Int32 → hp_St → Prop, K = (fun v6' Sk => I23 v6' Sk ∧ μ23 v6' Sk < μ23 v6 Su23) := ⟨_, rfl⟩
        rw [← hKe23] at h
        have hK23 : ∀ (v6' : Int32) (Sk : hp_St) (H : Heap) (locs : List Loc) (ls : Array Slot), K23 v6' Sk → lv_has ls 8 [(0, hp_v B o), (1, .int a1), (2, .int a2), (3, .int a3), (4, .int a4), (5, .int a5), (6, .int (v6'))] → hp_S B D s0 Sk H locs → hp_mono Sa23 Sk → W p l e ({ frames := 2, cells := 0, slots := 0, locals := 128 } : Room) s m args below meth c H locs 0 0 (MQ below (hp_Qi B D s0 (fun r S' => hp_mono Si S' ∧ Q r S')) args s 0 0 (fun q => B < q)) (F0 m 23 ls []) := by
          intro v6' Sk H locs ls hI hl hR ms
          rw [hKe23] at hI
          exact ih23 v6' Sk H locs ls (Nat.lt_of_lt_of_le hI.2 (Nat.le_of_lt_succ hN)) hI.1 hl hR ms
        have b76 : ∀ (v6 : Int32) (t0 : Int32) (S : hp_St) (H : Heap) (locs : List Loc) (ls : Array Slot), wb_X7_feed_76 o a1 a2 a3 a4 a5 v6 t0 S K23 Q → lv_has ls 8 [(0, hp_v B o), (1, .int a1), (2, .int a2), (3, .int a3), (4, .int a4), (5, .int a5), (6, .int v6)] → hp_S B D s0 S H locs → hp_mono Si S → hp_mono Sa23 S → W p l e ({ frames := 2, cells := 0, slots := 0, locals := 128 } : Room) s m args below meth c H locs 0 0 (MQ below (hp_Qi B D s0 (fun r S' => hp_mono Si S' ∧ Q r S')) args s 0 0 (fun q => B < q)) (F0 m 76 ls [.int t0]) := by
          intro v6 t0 S H locs ls h hl hR hm ms23
          unfold wb_X7_feed_76 at h
          refine hp_istore E hl 7 (lv' := [(0, hp_v B o), (1, .int a1), (2, .int a2), (3, .int a3), (4, .int a4), (5, .int a5), (6, .int v6)]) dX7_feed_76 (rfl : 76 + 2 = 78) (by decide) rfl (fun ls hl => ?_)
          refine hp_aload_n E hl 0 rfl 1 rfl dX7_feed_78 (rfl : 78 + 1 = 79) ?_
          refine hp_getR E hR in_X7 (hp_mono.c hm hc0) rfl 0 (Nat.le_of_ble_eq_true rfl) rfl q1261 (fun _ h => h) dX7_feed_79 (rfl : 79 + 3 = 82) ?_
          refine hp_aload_n E hl 0 rfl 1 rfl dX7_feed_82 (rfl : 82 + 1 = 83) ?_
          refine hp_getI E hR in_X7 (hp_mono.c hm hc0) rfl 1 (Nat.le_of_ble_eq_true rfl) rfl q1262 (fun _ h => h) dX7_feed_83 (rfl : 83 + 3 = 86) ?_
          refine hp_iload E hl 7 rfl dX7_feed_86 (rfl : 86 + 2 = 88) ?_
          refine hp_iadd E dX7_feed_88 (rfl : 88 + 1 = 89) ?_
          refine hp_iload E hl 0 rfl dX7_feed_89 (rfl : 89 + 2 = 91) ?_
          refine hp_bipush E (24 : Int32) (by decide) dX7_feed_91 (rfl : 91 + 2 = 93) ?_
          refine hp_bipush E (8 : Int32) (by decide) dX7_feed_93 (rfl : 93 + 2 = 95) ?_
          refine hp_iload E hl 7 rfl dX7_feed_95 (rfl : 95 + 2 = 97) ?_
          refine hp_iconst E (4 : Int32) (by decide) dX7_feed_97 (rfl : 97 + 1 = 98) ?_
          refine hp_irem E (by decide) dX7_feed_98 (rfl : 98 + 1 = 99) ?_
          refine hp_imul E dX7_feed_99 (rfl : 99 + 1 = 100) ?_
          refine hp_isub E dX7_feed_100 (rfl : 100 + 1 = 101) ?_
          refine hp_ishr E dX7_feed_101 (rfl : 101 + 1 = 102) ?_
          refine hp_sipush E (255 : Int32) (by decide) dX7_feed_102 (rfl : 102 + 3 = 105) ?_
          refine hp_iand E dX7_feed_105 (rfl : 105 + 1 = 106) ?_
          obtain ⟨hc7601, h⟩ := h
          obtain ⟨hi7602, h⟩ := h
          refine hx_iast E hR hc7601 hi7602 dX7_feed_106 (rfl : 106 + 1 = 107) (fun S7603 H locs e7605 hm7604 hR => ?_)
          have h := h S7603 e7605
          have hm := hp_mono.tr hm hm7604
          have ms23 := hp_mono.tr ms23 hm7604
          refine hp_iinc E hl (v6 + (1 : Int32)) 7 (lv' := [(7, .int t0), (0, hp_v B o), (1, .int a1), (2, .int a2), (3, .int a3), (4, .int a4), (5, .int a5)]) dX7_feed_107 (rfl : 107 + 3 = 110) rfl (by first | rfl | (congr 1)) (by decide) rfl (fun ls hl => ?_)
          refine hp_goto E (tgt := 23) dX7_feed_110 (by decide) ?_
          exact hK23 _ _ _ _ _ h (lv_sub hl [2, 3, 4, 5, 6, 7, 0] rfl) hR ms23
        unfold wb_X7_feed_23 at h
        refine hp_iload E hl 6 rfl dX7_feed_23 (rfl : 23 + 2 = 25) ?_
        refine hp_bipush E (20 : Int32) (by decide) dX7_feed_25 (rfl : 25 + 2 = 27) ?_
        refine hp_icmp_ge E dX7_feed_27 (rfl : 27 + 3 = 30) (tgt := 113) (by decide) (fun hb => ?_) (fun hb => ?_)
        · have h := h.1 hb
          refine hp_iload E hl 6 rfl dX7_feed_30 (rfl : 30 + 2 = 32) ?_
          refine hp_iconst E (4 : Int32) (by decide) dX7_feed_32 (rfl : 32 + 1 = 33) ?_
          refine hp_icmp_ge E dX7_feed_33 (rfl : 33 + 3 = 36) (tgt := 40) (by decide) (fun hb => ?_) (fun hb => ?_)
          · have h := h.1 hb
            refine hp_iload_n E hl 1 rfl 1 rfl dX7_feed_36 (rfl : 36 + 1 = 37) ?_
            refine hp_goto E (tgt := 76) dX7_feed_37 (by decide) ?_
            exact b76 _ _ _ _ _ _ h hl hR hm ms23
          · have h := h.2 hb
            refine hp_iload E hl 6 rfl dX7_feed_40 (rfl : 40 + 2 = 42) ?_
            refine hp_bipush E (8 : Int32) (by decide) dX7_feed_42 (rfl : 42 + 2 = 44) ?_
            refine hp_icmp_ge E dX7_feed_44 (rfl : 44 + 3 = 47) (tgt := 51) (by decide) (fun hb => ?_) (fun hb => ?_)
            · have h := h.1 hb
              refine hp_iload_n E hl 2 rfl 2 rfl dX7_feed_47 (rfl : 47 + 1 = 48) ?_
              refine hp_goto E (tgt := 76) dX7_feed_48 (by decide) ?_
              exact b76 _ _ _ _ _ _ h hl hR hm ms23
            · have h := h.2 hb
              refine hp_iload E hl 6 rfl dX7_feed_51 (rfl : 51 + 2 = 53) ?_
              refine hp_bipush E (12 : Int32) (by decide) dX7_feed_53 (rfl : 53 + 2 = 55) ?_
              refine hp_icmp_ge E dX7_feed_55 (rfl : 55 + 3 = 58) (tgt := 62) (by decide) (fun hb => ?_) (fun hb => ?_)
              · have h := h.1 hb
                refine hp_iload_n E hl 3 rfl 3 rfl dX7_feed_58 (rfl : 58 + 1 = 59) ?_
                refine hp_goto E (tgt := 76) dX7_feed_59 (by decide) ?_
                exact b76 _ _ _ _ _ _ h hl hR hm ms23
              · have h := h.2 hb
                refine hp_iload E hl 6 rfl dX7_feed_62 (rfl : 62 + 2 = 64) ?_
                refine hp_bipush E (16 : Int32) (by decide) dX7_feed_64 (rfl : 64 + 2 = 66) ?_
                refine hp_icmp_ge E dX7_feed_66 (rfl : 66 + 3 = 69) (tgt := 74) (by decide) (fun hb => ?_) (fun hb => ?_)
                · have h := h.1 hb
                  refine hp_iload E hl 4 rfl dX7_feed_69 (rfl : 69 + 2 = 71) ?_
                  refine hp_goto E (tgt := 76) dX7_feed_71 (by decide) ?_
                  exact b76 _ _ _ _ _ _ h hl hR hm ms23
                · have h := h.2 hb
                  refine hp_iload E hl 5 rfl dX7_feed_74 (rfl : 74 + 2 = 76) ?_
                  exact b76 _ _ _ _ _ _ h hl hR hm ms23
        · have h := h.2 hb
          refine hp_aload_n E hl 0 rfl 0 rfl dX7_feed_113 (rfl : 113 + 1 = 114) ?_
          refine hp_dup E hp_vc dX7_feed_114 (rfl : 114 + 1 = 115) ?_
          refine hp_getI E hR in_X7 (hp_mono.c hm hc0) rfl 1 (Nat.le_of_ble_eq_true rfl) rfl q1262 (fun _ h => h) dX7_feed_115 (rfl : 115 + 3 = 118) ?_
          refine hp_bipush E (20 : Int32) (by decide) dX7_feed_118 (rfl : 118 + 2 = 120) ?_
          refine hp_iadd E dX7_feed_120 (rfl : 120 + 1 = 121) ?_
          refine hx_putI E hR in_X7 tyX7 tyX7_ok nmX7 (hp_mono.c hm hc0) rfl 1 (Nat.le_of_ble_eq_true rfl) rfl q1262 (fun _ h => h) (Or.inl rfl) (Or.inl rfl) dX7_feed_121 (rfl : 121 + 3 = 124) (fun S2301 H locs e2303 hm2302 hR => ?_)
          have h := h S2301 e2303
          have hm := hp_mono.tr hm hm2302
          have ms23 := hp_mono.tr ms23 hm2302
          refine hp_aload_n E hl 0 rfl 0 rfl dX7_feed_124 (rfl : 124 + 1 = 125) ?_
          refine hp_getI E hR in_X7 (hp_mono.c hm hc0) rfl 1 (Nat.le_of_ble_eq_true rfl) rfl q1262 (fun _ h => h) dX7_feed_125 (rfl : 125 + 3 = 128) ?_
          exact hp_iret E hR ⟨hm, h⟩ (Nat.le_of_ble_eq_true rfl) (Nat.le_of_ble_eq_true rfl) dX7_feed_128
    exact key23 (μ23 v6 Sa23 + 1) v6 _ H locs ls (Nat.lt_succ_self _) hI hl hR hp_mono.rf
  unfold wp_X7_feed at h
  refine hp_aload_n E hl 0 rfl 0 rfl dX7_feed_0 (rfl : 0 + 1 = 1) ?_
  refine hp_iconst E (0 : Int32) (by decide) dX7_feed_1 (rfl : 1 + 1 = 2) ?_
  refine hx_putI E hR in_X7 tyX7 tyX7_ok nmX7 hc0 rfl 2 (Nat.le_of_ble_eq_true rfl) rfl q1263 (fun _ h => h) (Or.inl rfl) (Or.inl rfl) dX7_feed_2 (rfl : 2 + 3 = 5) (fun S1 H locs e3 hm2 hR => ?_)
  have h := h S1 e3
  have hm := hp_mono.tr hm hm2
  refine hp_aload_n E hl 0 rfl 0 rfl dX7_feed_5 (rfl : 5 + 1 = 6) ?_
  refine hp_getI E hR in_X7 (hp_mono.c hm hc0) rfl 1 (Nat.le_of_ble_eq_true rfl) rfl q1262 (fun _ h => h) dX7_feed_6 (rfl : 6 + 3 = 9) ?_
  refine hp_bipush E (20 : Int32) (by decide) dX7_feed_9 (rfl : 9 + 2 = 11) ?_
  refine hp_iadd E dX7_feed_11 (rfl : 11 + 1 = 12) ?_
  refine hp_sipush E (500 : Int32) (by decide) dX7_feed_12 (rfl : 12 + 3 = 15) ?_
  refine hp_icmp_le E dX7_feed_15 (rfl : 15 + 3 = 18) (tgt := 20) (by decide) (fun hb => ?_) (fun hb => ?_)
  · have h := h.1 hb
    refine hp_iconst E (0 : Int32) (by decide) dX7_feed_20 (rfl : 20 + 1 = 21) ?_
    refine hp_istore E hl 6 (lv' := [(0, hp_v B o), (1, .int a1), (2, .int a2), (3, .int a3), (4, .int a4), (5, .int a5)]) dX7_feed_21 (rfl : 21 + 2 = 23) (by decide) rfl (fun ls hl => ?_)
    exact b23 _ _ _ _ _ h (lv_sub hl [1, 2, 3, 4, 5, 6, 0] rfl) hR hm
  · have h := h.2 hb
    refine hp_iconst E (-1 : Int32) (by decide) dX7_feed_18 (rfl : 18 + 1 = 19) ?_
    exact hp_iret E hR ⟨hm, h⟩ (Nat.le_of_ble_eq_true rfl) (Nat.le_of_ble_eq_true rfl) dX7_feed_19
def wb_X7_isSmall_35 (o : Nat) (a1 : Int32) (t0 : Int32) (S : hp_St) (Q : Int32 → Prop) : Prop := (t0 = 0 ∨ t0 = 1) ∧ Q t0
def wb_X7_isSmall_34 (o : Nat) (a1 : Int32) (S : hp_St) (Q : Int32 → Prop) : Prop := wb_X7_isSmall_35 o a1 (0 : Int32) S Q
def wp_X7_isSmall (o : Nat) (a1 : Int32) (S : hp_St) (Q : Int32 → Prop) : Prop := (((a1 < (st_I S o 25)) → (st_C S (st_R S o 0) = 50) ∧ (vp_in a1 (st_L S (st_R S o 0))) ∧ ((((st_I S (st_R S o 0) a1.toNatClampNeg) < (97 : Int32)) → wb_X7_isSmall_34 o a1 S Q) ∧ ((¬ ((st_I S (st_R S o 0) a1.toNatClampNeg) < (97 : Int32))) → (vp_in a1 (st_L S (st_R S o 0))) ∧ ((((st_I S (st_R S o 0) a1.toNatClampNeg) ≤ (122 : Int32)) → wb_X7_isSmall_35 o a1 (1 : Int32) S Q) ∧ ((¬ ((st_I S (st_R S o 0) a1.toNatClampNeg) ≤ (122 : Int32))) → wb_X7_isSmall_34 o a1 S Q))))) ∧ ((¬ (a1 < (st_I S o 25))) → wb_X7_isSmall_34 o a1 S Q))
theorem nf_X7_isSmall : hp_nf yX7_isSmall 1 = true := by decide +kernel
set_option maxHeartbeats 4000000 in
theorem m_X7_isSmall {l : Launch} {B : Nat} {D : va_G} {s0 : State} {b0 : Nat} (G : hp_G l B D s0 b0) (o : Nat) (a1 : Int32) (Si : hp_St) (Q : Int32 → Prop) (hc0 : st_C Si o = 7) (h : wp_X7_isSmall o a1 Si Q) : hp_M l B D s0 yX7_isSmall cX7_isSmall 2 (some .boolean) 2 128 0 0 [hp_v B o, .int a1] Si (hp_Qi B D s0 (fun r S' => S' = Si ∧ Q r)) := by
  refine hp_start G (by decide +kernel) rfl rfl (lv := [(0, hp_v B o), (1, .int a1)]) (by simp [lg_sl, hp_vc, hp_ci, hp_cj]) (by simp [lv_args, hp_vc, hp_ci, hp_cj]) ?_
  intro p e s m args below meth c E ls hl hR
  generalize hH : s.heap = H at hR ⊢
  generalize hLo : ([] : List Loc) = locs at hR ⊢
  have b35 : ∀ (t0 : Int32) (H : Heap) (locs : List Loc) (ls : Array Slot), wb_X7_isSmall_35 o a1 t0 Si Q → lv_has ls 2 [] → hp_S B D s0 Si H locs → W p l e ({ frames := 2, cells := 0, slots := 0, locals := 128 } : Room) s m args below meth c H locs 0 0 (MQ below (hp_Qi B D s0 (fun r S' => S' = Si ∧ Q r)) args s 0 0 (fun q => B < q)) (F0 m 35 ls [.int t0]) := by
    intro t0 H locs ls h hl hR
    unfold wb_X7_isSmall_35 at h
    obtain ⟨hz3501, h⟩ := h
    exact hp_zret E hR hz3501 ⟨rfl, h⟩ (Nat.le_of_ble_eq_true rfl) (Nat.le_of_ble_eq_true rfl) dX7_isSmall_35
  have b34 : ∀ (H : Heap) (locs : List Loc) (ls : Array Slot), wb_X7_isSmall_34 o a1 Si Q → lv_has ls 2 [] → hp_S B D s0 Si H locs → W p l e ({ frames := 2, cells := 0, slots := 0, locals := 128 } : Room) s m args below meth c H locs 0 0 (MQ below (hp_Qi B D s0 (fun r S' => S' = Si ∧ Q r)) args s 0 0 (fun q => B < q)) (F0 m 34 ls []) := by
    intro  H locs ls h hl hR
    unfold wb_X7_isSmall_34 at h
    refine hp_iconst E (0 : Int32) (by decide) dX7_isSmall_34 (rfl : 34 + 1 = 35) ?_
    exact b35 _ _ _ _ h hl hR
  unfold wp_X7_isSmall at h
  refine hp_iload_n E hl 1 rfl 1 rfl dX7_isSmall_0 (rfl : 0 + 1 = 1) ?_
  refine hp_aload_n E hl 0 rfl 0 rfl dX7_isSmall_1 (rfl : 1 + 1 = 2) ?_
  refine hp_getI E hR in_X7 hc0 rfl 25 (Nat.le_of_ble_eq_true rfl) rfl q1286 (fun _ h => h) dX7_isSmall_2 (rfl : 2 + 3 = 5) ?_
  refine hp_icmp_ge E dX7_isSmall_5 (rfl : 5 + 3 = 8) (tgt := 34) (by decide) (fun hb => ?_) (fun hb => ?_)
  · have h := h.1 hb
    refine hp_aload_n E hl 0 rfl 0 rfl dX7_isSmall_8 (rfl : 8 + 1 = 9) ?_
    refine hp_getR E hR in_X7 hc0 rfl 0 (Nat.le_of_ble_eq_true rfl) rfl q1261 (fun _ h => h) dX7_isSmall_9 (rfl : 9 + 3 = 12) ?_
    refine hp_iload_n E hl 1 rfl 1 rfl dX7_isSmall_12 (rfl : 12 + 1 = 13) ?_
    obtain ⟨hc1, h⟩ := h
    obtain ⟨hi2, h⟩ := h
    refine hp_iald E hR hc1 hi2 dX7_isSmall_13 (rfl : 13 + 1 = 14) ?_
    refine hp_bipush E (97 : Int32) (by decide) dX7_isSmall_14 (rfl : 14 + 2 = 16) ?_
    refine hp_icmp_lt E dX7_isSmall_16 (rfl : 16 + 3 = 19) (tgt := 34) (by decide) (fun hb => ?_) (fun hb => ?_)
    · have h := h.1 hb
      exact b34 _ _ _ h (lv_sub hl [] rfl) hR
    · have h := h.2 hb
      refine hp_aload_n E hl 0 rfl 0 rfl dX7_isSmall_19 (rfl : 19 + 1 = 20) ?_
      refine hp_getR E hR in_X7 hc0 rfl 0 (Nat.le_of_ble_eq_true rfl) rfl q1261 (fun _ h => h) dX7_isSmall_20 (rfl : 20 + 3 = 23) ?_
      refine hp_iload_n E hl 1 rfl 1 rfl dX7_isSmall_23 (rfl : 23 + 1 = 24) ?_
      obtain ⟨hi3, h⟩ := h
      refine hp_iald E hR hc1 hi3 dX7_isSmall_24 (rfl : 24 + 1 = 25) ?_
      refine hp_bipush E (122 : Int32) (by decide) dX7_isSmall_25 (rfl : 25 + 2 = 27) ?_
      refine hp_icmp_gt E dX7_isSmall_27 (rfl : 27 + 3 = 30) (tgt := 34) (by decide) (fun hb => ?_) (fun hb => ?_)
      · have h := h.1 hb
        refine hp_iconst E (1 : Int32) (by decide) dX7_isSmall_30 (rfl : 30 + 1 = 31) ?_
        refine hp_goto E (tgt := 35) dX7_isSmall_31 (by decide) ?_
        exact b35 _ _ _ _ h (lv_sub hl [] rfl) hR
      · have h := h.2 hb
        exact b34 _ _ _ h (lv_sub hl [] rfl) hR
  · have h := h.2 hb
    exact b34 _ _ _ h (lv_sub hl [] rfl) hR
def wb_X7_wordAt_104 (o : Nat) (a1 : Int32) (a2 : Int32) (v3 : Int32) (v4 : Int32) (v5 : Int32) (v6 : Int32) (S : hp_St) (K5 : Int32 → Int32 → Prop) (Q : Int32 → Prop) : Prop := (((v6 = 0) → K5 (v3 + (1 : Int32)) (v4 + (v5 + (1 : Int32)))) ∧ ((¬ (v6 = 0)) → Q v3))
def wb_X7_wordAt_96 (o : Nat) (a1 : Int32) (a2 : Int32) (v3 : Int32) (v4 : Int32) (v5 : Int32) (v7 : Int32) (t0 : Int32) (S : hp_St) (K5 : Int32 → Int32 → Prop) (K57 : Int32 → Int32 → Prop) (Q : Int32 → Prop) : Prop := K57 t0 (v7 + (1 : Int32))
def wb_X7_wordAt_57 (o : Nat) (a1 : Int32) (a2 : Int32) (v3 : Int32) (v4 : Int32) (v5 : Int32) (v6 : Int32) (v7 : Int32) (S : hp_St) (K5 : Int32 → Int32 → Prop) (K57 : Int32 → Int32 → Prop) (Q : Int32 → Prop) : Prop := (((v7 < v5) → (((v6 = 0) → wb_X7_wordAt_104 o a1 a2 v3 v4 v5 v6 S K5 Q) ∧ ((¬ (v6 = 0)) → (st_C S (st_R S o 22) = 50) ∧ (vp_in (v4 + v7) (st_L S (st_R S o 22))) ∧ (st_C S (st_R S o 0) = 50) ∧ (vp_in (a1 + v7) (st_L S (st_R S o 0))) ∧ ((((st_I S (st_R S o 22) (v4 + v7).toNatClampNeg) = (st_I S (st_R S o 0) (a1 + v7).toNatClampNeg)) → wb_X7_wordAt_96 o a1 a2 v3 v4 v5 v7 (1 : Int32) S K5 K57 Q) ∧ ((¬ ((st_I S (st_R S o 22) (v4 + v7).toNatClampNeg) = (st_I S (st_R S o 0) (a1 + v7).toNatClampNeg))) → wb_X7_wordAt_96 o a1 a2 v3 v4 v5 v7 (0 : Int32) S K5 K57 Q))))) ∧ ((¬ (v7 < v5)) → wb_X7_wordAt_104 o a1 a2 v3 v4 v5 v6 S K5 Q))
def wl_X7_wordAt_57 (o : Nat) (a1 : Int32) (a2 : Int32) (v3 : Int32) (v4 : Int32) (v5 : Int32) (v6 : Int32) (v7 : Int32) (S : hp_St) (K5 : Int32 → Int32 → Prop) (Q : Int32 → Prop) : Prop := ∃ (I : Int32 → Int32 → Prop) (μ : Int32 → Int32 → Nat), I v6 v7 ∧ ∀ (v6 : Int32) (v7 : Int32), I v6 v7 → wb_X7_wordAt_57 o a1 a2 v3 v4 v5 v6 v7 S K5 (fun v6' v7' => I v6' v7' ∧ μ v6' v7' < μ v6 v7) Q
def wb_X7_wordAt_52 (o : Nat) (a1 : Int32) (a2 : Int32) (v3 : Int32) (v4 : Int32) (v5 : Int32) (t0 : Int32) (S : hp_St) (K5 : Int32 → Int32 → Prop) (Q : Int32 → Prop) : Prop := wl_X7_wordAt_57 o a1 a2 v3 v4 v5 t0 (0 : Int32) S K5 Q
def wb_X7_wordAt_18 (o : Nat) (a1 : Int32) (a2 : Int32) (v3 : Int32) (v4 : Int32) (v5 : Int32) (S : hp_St) (K5 : Int32 → Int32 → Prop) (K18 : Int32 → Prop) (Q : Int32 → Prop) : Prop := (st_C S (st_R S o 22) = 50) ∧ (vp_in (v4 + v5) (st_L S (st_R S o 22))) ∧ ((((st_I S (st_R S o 22) (v4 + v5).toNatClampNeg) = (32 : Int32)) → (((v5 = (a2 - a1)) → wb_X7_wordAt_52 o a1 a2 v3 v4 v5 (1 : Int32) S K5 Q) ∧ ((¬ (v5 = (a2 - a1))) → wb_X7_wordAt_52 o a1 a2 v3 v4 v5 (0 : Int32) S K5 Q))) ∧ ((¬ ((st_I S (st_R S o 22) (v4 + v5).toNatClampNeg) = (32 : Int32))) → K18 (v5 + (1 : Int32))))
def wl_X7_wordAt_18 (o : Nat) (a1 : Int32) (a2 : Int32) (v3 : Int32) (v4 : Int32) (v5 : Int32) (S : hp_St) (K5 : Int32 → Int32 → Prop) (Q : Int32 → Prop) : Prop := ∃ (I : Int32 → Prop) (μ : Int32 → Nat), I v5 ∧ ∀ (v5 : Int32), I v5 → wb_X7_wordAt_18 o a1 a2 v3 v4 v5 S K5 (fun v5' => I v5' ∧ μ v5' < μ v5) Q
def wb_X7_wordAt_5 (o : Nat) (a1 : Int32) (a2 : Int32) (v3 : Int32) (v4 : Int32) (S : hp_St) (K5 : Int32 → Int32 → Prop) (Q : Int32 → Prop) : Prop := (st_C S (st_R S o 22) = 50) ∧ (((v4 < (nI (st_L S (st_R S o 22)))) → wl_X7_wordAt_18 o a1 a2 v3 v4 (0 : Int32) S K5 Q) ∧ ((¬ (v4 < (nI (st_L S (st_R S o 22))))) → Q (-1 : Int32)))
def wl_X7_wordAt_5 (o : Nat) (a1 : Int32) (a2 : Int32) (v3 : Int32) (v4 : Int32) (S : hp_St) (Q : Int32 → Prop) : Prop := ∃ (I : Int32 → Int32 → Prop) (μ : Int32 → Int32 → Nat), I v3 v4 ∧ ∀ (v3 : Int32) (v4 : Int32), I v3 v4 → wb_X7_wordAt_5 o a1 a2 v3 v4 S (fun v3' v4' => I v3' v4' ∧ μ v3' v4' < μ v3 v4) Q
def wp_X7_wordAt (o : Nat) (a1 : Int32) (a2 : Int32) (S : hp_St) (Q : Int32 → Prop) : Prop := wl_X7_wordAt_5 o a1 a2 (0 : Int32) (0 : Int32) S Q
theorem nf_X7_wordAt : hp_nf yX7_wordAt 2 = true := by decide +kernel
set_option maxHeartbeats 4000000 in
theorem m_X7_wordAt {l : Launch} {B : Nat} {D : va_G} {s0 : State} {b0 : Nat} (G : hp_G l B D s0 b0) (o : Nat) (a1 : Int32) (a2 : Int32) (Si : hp_St) (Q : Int32 → Prop) (hc0 : st_C Si o = 7) (h : wp_X7_wordAt o a1 a2 Si Q) : hp_M l B D s0 yX7_wordAt cX7_wordAt 8 (some .int) 2 128 0 0 [hp_v B o, .int a1, .int a2] Si (hp_Qi B D s0 (fun r S' => S' = Si ∧ Q r)) := by
  refine hp_start G (by decide +kernel) rfl rfl (lv := [(0, hp_v B o), (1, .int a1), (2, .int a2)]) (by simp [lg_sl, hp_vc, hp_ci, hp_cj]) (by simp [lv_args, hp_vc, hp_ci, hp_cj]) ?_
  intro p e s m args below meth c E ls hl hR
  generalize hH : s.heap = H at hR ⊢
  generalize hLo : ([] : List Loc) = locs at hR ⊢
  have b5 : ∀ (v3 : Int32) (v4 : Int32) (H : Heap) (locs : List Loc) (ls : Array Slot), wl_X7_wordAt_5 o a1 a2 v3 v4 Si Q → lv_has ls 8 [(0, hp_v B o), (1, .int a1), (2, .int a2), (3, .int v3), (4, .int v4)] → hp_S B D s0 Si H locs → W p l e ({ frames := 2, cells := 0, slots := 0, locals := 128 } : Room) s m args below meth c H locs 0 0 (MQ below (hp_Qi B D s0 (fun r S' => S' = Si ∧ Q r)) args s 0 0 (fun q => B < q)) (F0 m 5 ls []) := by
    intro v3 v4 H locs ls h hl hR
    obtain ⟨I5, μ5, hI, hst⟩ := h
    have key5 : ∀ (N : Nat) (v3 : Int32) (v4 : Int32) (H : Heap) (locs : List Loc) (ls : Array Slot), μ5 v3 v4 < N → I5 v3 v4 → lv_has ls 8 [(0, hp_v B o), (1, .int a1), (2, .int a2), (3, .int v3), (4, .int v4)] → hp_S B D s0 Si H locs → W p l e ({ frames := 2, cells := 0, slots := 0, locals := 128 } : Room) s m args below meth c H locs 0 0 (MQ below (hp_Qi B D s0 (fun r S' => S' = Si ∧ Q r)) args s 0 0 (fun q => B < q)) (F0 m 5 ls []) := by
      intro N
      induction N with
      | zero =>
        intro v3 v4 H locs ls hN
        exact absurd hN (Nat.not_lt_zero _)
      | succ N ih5 =>
        intro v3 v4 H locs ls hN hI hl hR
        have h := hst v3 v4 hI
        obtain ⟨K5, hKe5⟩ : ∃ K : Int32 → Int32 → Prop, K = (fun v3' v4' => I5 v3' v4' ∧ μ5 v3' v4' < μ5 v3 v4) := ⟨_, rfl⟩
        rw [← hKe5] at h
        have hK5 : ∀ (v3' : Int32) (v4' : Int32) (H : Heap) (locs : List Loc) (ls : Array Slot), K5 v3' v4' → lv_has ls 8 [(0, hp_v B o), (1, .int a1), (2, .int a2), (3, .int (v3')), (4, .int (v4'))] → hp_S B D s0 Si H locs → W p l e ({ frames := 2, cells := 0, slots := 0, locals := 128 } : Room) s m args below meth c H locs 0 0 (MQ below (hp_Qi B D s0 (fun r S' => S' = Si ∧ Q r)) args s 0 0 (fun q => B < q)) (F0 m 5 ls []) := by
          intro v3' v4' H locs ls hI hl hR
          rw [hKe5] at hI
          exact ih5 v3' v4' H locs ls (Nat.lt_of_lt_of_le hI.2 (Nat.le_of_lt_succ hN)) hI.1 hl hR
        have b104 : ∀ (v3 : Int32) (v4 : Int32) (v5 : Int32) (v6 : Int32) (H : Heap) (locs : List Loc) (ls : Array Slot), wb_X7_wordAt_104 o a1 a2 v3 v4 v5 v6 Si K5 Q → lv_has ls 8 [(0, hp_v B o), (1, .int a1), (2, .int a2), (3, .int v3), (4, .int v4), (5, .int v5), (6, .int v6)] → hp_S B D s0 Si H locs → W p l e ({ frames := 2, cells := 0, slots := 0, locals := 128 } : Room) s m args below meth c H locs 0 0 (MQ below (hp_Qi B D s0 (fun r S' => S' = Si ∧ Q r)) args s 0 0 (fun q => B < q)) (F0 m 104 ls []) := by
          intro v3 v4 v5 v6 H locs ls h hl hR
          unfold wb_X7_wordAt_104 at h
          refine hp_iload E hl 6 rfl dX7_wordAt_104 (rfl : 104 + 2 = 106) ?_
          refine hp_if_eq E dX7_wordAt_106 (rfl : 106 + 3 = 109) (tgt := 111) (by decide) (fun hb => ?_) (fun hb => ?_)
          · have h := h.1 hb
            refine hp_iload E hl 4 rfl dX7_wordAt_111 (rfl : 111 + 2 = 113) ?_
            refine hp_iload E hl 5 rfl dX7_wordAt_113 (rfl : 113 + 2 = 115) ?_
            refine hp_iconst E (1 : Int32) (by decide) dX7_wordAt_115 (rfl : 115 + 1 = 116) ?_
            refine hp_iadd E dX7_wordAt_116 (rfl : 116 + 1 = 117) ?_
            refine hp_iadd E dX7_wordAt_117 (rfl : 117 + 1 = 118) ?_
            refine hp_istore E hl 4 (lv' := [(0, hp_v B o), (1, .int a1), (2, .int a2), (3, .int v3), (5, .int v5), (6, .int v6)]) dX7_wordAt_118 (rfl : 118 + 2 = 120) (by decide) rfl (fun ls hl => ?_)
            refine hp_iinc E hl (v3 + (1 : Int32)) 4 (lv' := [(4, .int (v4 + (v5 + (1 : Int32)))), (0, hp_v B o), (1, .int a1), (2, .int a2), (5, .int v5), (6, .int v6)]) dX7_wordAt_120 (rfl : 120 + 3 = 123) rfl (by first | rfl | (congr 1)) (by decide) rfl (fun ls hl => ?_)
            refine hp_goto E (tgt := 5) dX7_wordAt_123 (by decide) ?_
            exact hK5 _ _ _ _ _ h (lv_sub hl [2, 3, 4, 0, 1] rfl) hR
          · have h := h.2 hb
            refine hp_iload_n E hl 3 rfl 3 rfl dX7_wordAt_109 (rfl : 109 + 1 = 110) ?_
            exact hp_iret E hR ⟨rfl, h⟩ (Nat.le_of_ble_eq_true rfl) (Nat.le_of_ble_eq_true rfl) dX7_wordAt_110
        have b57 : ∀ (v3 : Int32) (v4 : Int32) (v5 : Int32) (v6 : Int32) (v7 : Int32) (H : Heap) (locs : List Loc) (ls : Array Slot), wl_X7_wordAt_57 o a1 a2 v3 v4 v5 v6 v7 Si K5 Q → lv_has ls 8 [(0, hp_v B o), (1, .int a1), (2, .int a2), (3, .int v3), (4, .int v4), (5, .int v5), (6, .int v6), (7, .int v7)] → hp_S B D s0 Si H locs → W p l e ({ frames := 2, cells := 0, slots := 0, locals := 128 } : Room) s m args below meth c H locs 0 0 (MQ below (hp_Qi B D s0 (fun r S' => S' = Si ∧ Q r)) args s 0 0 (fun q => B < q)) (F0 m 57 ls []) := by
          intro v3 v4 v5 v6 v7 H locs ls h hl hR
          obtain ⟨I57, μ57, hI, hst⟩ := h
          have key57 : ∀ (N : Nat) (v6 : Int32) (v7 : Int32) (H : Heap) (locs : List Loc) (ls : Array Slot), μ57 v6 v7 < N → I57 v6 v7 → lv_has ls 8 [(0, hp_v B o), (1, .int a1), (2, .int a2), (3, .int v3), (4, .int v4), (5, .int v5), (6, .int v6), (7, .int v7)] → hp_S B D s0 Si H locs → W p l e ({ frames := 2, cells := 0, slots := 0, locals := 128 } : Room) s m args below meth c H locs 0 0 (MQ below (hp_Qi B D s0 (fun r S' => S' = Si ∧ Q r)) args s 0 0 (fun q => B < q)) (F0 m 57 ls []) := by
            intro N
            induction N with
            | zero =>
              intro v6 v7 H locs ls hN
              exact absurd hN (Nat.not_lt_zero _)
            | succ N ih57 =>
              intro v6 v7 H locs ls hN hI hl hR
              have h := hst v6 v7 hI
              obtain ⟨K57, hKe57⟩ : ∃ K : Int32 → Int32 → Prop, K = (fun v6' v7' => I57 v6' v7' ∧ μ57 v6' v7' < μ57 v6 v7) := ⟨_, rfl⟩
              rw [← hKe57] at h
              have hK57 : ∀ (v6' : Int32) (v7' : Int32) (H : Heap) (locs : List Loc) (ls : Array Slot), K57 v6' v7' → lv_has ls 8 [(0, hp_v B o), (1, .int a1), (2, .int a2), (3, .int v3), (4, .int v4), (5, .int v5), (6, .int (v6')), (7, .int (v7'))] → hp_S B D s0 Si H locs → W p l e ({ frames := 2, cells := 0, slots := 0, locals := 128 } : Room) s m args below meth c H locs 0 0 (MQ below (hp_Qi B D s0 (fun r S' => S' = Si ∧ Q r)) args s 0 0 (fun q => B < q)) (F0 m 57 ls []) := by
                intro v6' v7' H locs ls hI hl hR
                rw [hKe57] at hI
                exact ih57 v6' v7' H locs ls (Nat.lt_of_lt_of_le hI.2 (Nat.le_of_lt_succ hN)) hI.1 hl hR
              have b96 : ∀ (v7 : Int32) (t0 : Int32) (H : Heap) (locs : List Loc) (ls : Array Slot), wb_X7_wordAt_96 o a1 a2 v3 v4 v5 v7 t0 Si K5 K57 Q → lv_has ls 8 [(0, hp_v B o), (1, .int a1), (2, .int a2), (3, .int v3), (4, .int v4), (5, .int v5), (7, .int v7)] → hp_S B D s0 Si H locs → W p l e ({ frames := 2, cells := 0, slots := 0, locals := 128 } : Room) s m args below meth c H locs 0 0 (MQ below (hp_Qi B D s0 (fun r S' => S' = Si ∧ Q r)) args s 0 0 (fun q => B < q)) (F0 m 96 ls [.int t0]) := by
                intro v7 t0 H locs ls h hl hR
                unfold wb_X7_wordAt_96 at h
                refine hp_istore E hl 6 (lv' := [(0, hp_v B o), (1, .int a1), (2, .int a2), (3, .int v3), (4, .int v4), (5, .int v5), (7, .int v7)]) dX7_wordAt_96 (rfl : 96 + 2 = 98) (by decide) rfl (fun ls hl => ?_)
                refine hp_iinc E hl (v7 + (1 : Int32)) 7 (lv' := [(6, .int t0), (0, hp_v B o), (1, .int a1), (2, .int a2), (3, .int v3), (4, .int v4), (5, .int v5)]) dX7_wordAt_98 (rfl : 98 + 3 = 101) rfl (by first | rfl | (congr 1)) (by decide) rfl (fun ls hl => ?_)
                refine hp_goto E (tgt := 57) dX7_wordAt_101 (by decide) ?_
                exact hK57 _ _ _ _ _ h (lv_sub hl [2, 3, 4, 5, 6, 7, 1, 0] rfl) hR
              unfold wb_X7_wordAt_57 at h
              refine hp_iload E hl 7 rfl dX7_wordAt_57 (rfl : 57 + 2 = 59) ?_
              refine hp_iload E hl 5 rfl dX7_wordAt_59 (rfl : 59 + 2 = 61) ?_
              refine hp_icmp_ge E dX7_wordAt_61 (rfl : 61 + 3 = 64) (tgt := 104) (by decide) (fun hb => ?_) (fun hb => ?_)
              · have h := h.1 hb
                refine hp_iload E hl 6 rfl dX7_wordAt_64 (rfl : 64 + 2 = 66) ?_
                refine hp_if_eq E dX7_wordAt_66 (rfl : 66 + 3 = 69) (tgt := 104) (by decide) (fun hb => ?_) (fun hb => ?_)
                · have h := h.1 hb
                  exact b104 _ _ _ _ _ _ _ h (lv_sub hl [0, 1, 2, 3, 4, 5, 6] rfl) hR
                · have h := h.2 hb
                  refine hp_aload_n E hl 0 rfl 0 rfl dX7_wordAt_69 (rfl : 69 + 1 = 70) ?_
                  refine hp_getR E hR in_X7 hc0 rfl 22 (Nat.le_of_ble_eq_true rfl) rfl q1283 (fun _ h => h) dX7_wordAt_70 (rfl : 70 + 3 = 73) ?_
                  refine hp_iload E hl 4 rfl dX7_wordAt_73 (rfl : 73 + 2 = 75) ?_
                  refine hp_iload E hl 7 rfl dX7_wordAt_75 (rfl : 75 + 2 = 77) ?_
                  refine hp_iadd E dX7_wordAt_77 (rfl : 77 + 1 = 78) ?_
                  obtain ⟨hc5701, h⟩ := h
                  obtain ⟨hi5702, h⟩ := h
                  refine hp_iald E hR hc5701 hi5702 dX7_wordAt_78 (rfl : 78 + 1 = 79) ?_
                  refine hp_aload_n E hl 0 rfl 0 rfl dX7_wordAt_79 (rfl : 79 + 1 = 80) ?_
                  refine hp_getR E hR in_X7 hc0 rfl 0 (Nat.le_of_ble_eq_true rfl) rfl q1261 (fun _ h => h) dX7_wordAt_80 (rfl : 80 + 3 = 83) ?_
                  refine hp_iload_n E hl 1 rfl 1 rfl dX7_wordAt_83 (rfl : 83 + 1 = 84) ?_
                  refine hp_iload E hl 7 rfl dX7_wordAt_84 (rfl : 84 + 2 = 86) ?_
                  refine hp_iadd E dX7_wordAt_86 (rfl : 86 + 1 = 87) ?_
                  obtain ⟨hc5703, h⟩ := h
                  obtain ⟨hi5704, h⟩ := h
                  refine hp_iald E hR hc5703 hi5704 dX7_wordAt_87 (rfl : 87 + 1 = 88) ?_
                  refine hp_icmp_ne E dX7_wordAt_88 (rfl : 88 + 3 = 91) (tgt := 95) (by decide) (fun hb => ?_) (fun hb => ?_)
                  · have h := h.1 hb
                    refine hp_iconst E (1 : Int32) (by decide) dX7_wordAt_91 (rfl : 91 + 1 = 92) ?_
                    refine hp_goto E (tgt := 96) dX7_wordAt_92 (by decide) ?_
                    exact b96 _ _ _ _ _ h (lv_sub hl [0, 1, 2, 3, 4, 5, 7] rfl) hR
                  · have h := h.2 hb
                    refine hp_iconst E (0 : Int32) (by decide) dX7_wordAt_95 (rfl : 95 + 1 = 96) ?_
                    exact b96 _ _ _ _ _ h (lv_sub hl [0, 1, 2, 3, 4, 5, 7] rfl) hR
              · have h := h.2 hb
                exact b104 _ _ _ _ _ _ _ h (lv_sub hl [0, 1, 2, 3, 4, 5, 6] rfl) hR
          exact key57 (μ57 v6 v7 + 1) v6 v7 H locs ls (Nat.lt_succ_self _) hI hl hR
        have b52 : ∀ (v3 : Int32) (v4 : Int32) (v5 : Int32) (t0 : Int32) (H : Heap) (locs : List Loc) (ls : Array Slot), wb_X7_wordAt_52 o a1 a2 v3 v4 v5 t0 Si K5 Q → lv_has ls 8 [(0, hp_v B o), (1, .int a1), (2, .int a2), (3, .int v3), (4, .int v4), (5, .int v5)] → hp_S B D s0 Si H locs → W p l e ({ frames := 2, cells := 0, slots := 0, locals := 128 } : Room) s m args below meth c H locs 0 0 (MQ below (hp_Qi B D s0 (fun r S' => S' = Si ∧ Q r)) args s 0 0 (fun q => B < q)) (F0 m 52 ls [.int t0]) := by
          intro v3 v4 v5 t0 H locs ls h hl hR
          unfold wb_X7_wordAt_52 at h
          refine hp_istore E hl 6 (lv' := [(0, hp_v B o), (1, .int a1), (2, .int a2), (3, .int v3), (4, .int v4), (5, .int v5)]) dX7_wordAt_52 (rfl : 52 + 2 = 54) (by decide) rfl (fun ls hl => ?_)
          refine hp_iconst E (0 : Int32) (by decide) dX7_wordAt_54 (rfl : 54 + 1 = 55) ?_
          refine hp_istore E hl 7 (lv' := [(6, .int t0), (0, hp_v B o), (1, .int a1), (2, .int a2), (3, .int v3), (4, .int v4), (5, .int v5)]) dX7_wordAt_55 (rfl : 55 + 2 = 57) (by decide) rfl (fun ls hl => ?_)
          exact b57 _ _ _ _ _ _ _ _ h (lv_sub hl [2, 3, 4, 5, 6, 7, 1, 0] rfl) hR
        have b18 : ∀ (v3 : Int32) (v4 : Int32) (v5 : Int32) (H : Heap) (locs : List Loc) (ls : Array Slot), wl_X7_wordAt_18 o a1 a2 v3 v4 v5 Si K5 Q → lv_has ls 8 [(0, hp_v B o), (1, .int a1), (2, .int a2), (3, .int v3), (4, .int v4), (5, .int v5)] → hp_S B D s0 Si H locs → W p l e ({ frames := 2, cells := 0, slots := 0, locals := 128 } : Room) s m args below meth c H locs 0 0 (MQ below (hp_Qi B D s0 (fun r S' => S' = Si ∧ Q r)) args s 0 0 (fun q => B < q)) (F0 m 18 ls []) := by
          intro v3 v4 v5 H locs ls h hl hR
          obtain ⟨I18, μ18, hI, hst⟩ := h
          have key18 : ∀ (N : Nat) (v5 : Int32) (H : Heap) (locs : List Loc) (ls : Array Slot), μ18 v5 < N → I18 v5 → lv_has ls 8 [(0, hp_v B o), (1, .int a1), (2, .int a2), (3, .int v3), (4, .int v4), (5, .int v5)] → hp_S B D s0 Si H locs → W p l e ({ frames := 2, cells := 0, slots := 0, locals := 128 } : Room) s m args below meth c H locs 0 0 (MQ below (hp_Qi B D s0 (fun r S' => S' = Si ∧ Q r)) args s 0 0 (fun q => B < q)) (F0 m 18 ls []) := by
            intro N
            induction N with
            | zero =>
              intro v5 H locs ls hN
              exact absurd hN (Nat.not_lt_zero _)
            | succ N ih18 =>
              intro v5 H locs ls hN hI hl hR
              have h := hst v5 hI
              obtain ⟨K18, hKe18⟩ : ∃ K : Int32 → Prop, K = (fun v5' => I18 v5' ∧ μ18 v5' < μ18 v5) := ⟨_, rfl⟩
              rw [← hKe18] at h
              have hK18 : ∀ (v5' : Int32) (H : Heap) (locs : List Loc) (ls : Array Slot), K18 v5' → lv_has ls 8 [(0, hp_v B o), (1, .int a1), (2, .int a2), (3, .int v3), (4, .int v4), (5, .int (v5'))] → hp_S B D s0 Si H locs → W p l e ({ frames := 2, cells := 0, slots := 0, locals := 128 } : Room) s m args below meth c H locs 0 0 (MQ below (hp_Qi B D s0 (fun r S' => S' = Si ∧ Q r)) args s 0 0 (fun q => B < q)) (F0 m 18 ls []) := by
                intro v5' H locs ls hI hl hR
                rw [hKe18] at hI
                exact ih18 v5' H locs ls (Nat.lt_of_lt_of_le hI.2 (Nat.le_of_lt_succ hN)) hI.1 hl hR
              unfold wb_X7_wordAt_18 at h
              refine hp_aload_n E hl 0 rfl 0 rfl dX7_wordAt_18 (rfl : 18 + 1 = 19) ?_
              refine hp_getR E hR in_X7 hc0 rfl 22 (Nat.le_of_ble_eq_true rfl) rfl q1283 (fun _ h => h) dX7_wordAt_19 (rfl : 19 + 3 = 22) ?_
              refine hp_iload E hl 4 rfl dX7_wordAt_22 (rfl : 22 + 2 = 24) ?_
              refine hp_iload E hl 5 rfl dX7_wordAt_24 (rfl : 24 + 2 = 26) ?_
              refine hp_iadd E dX7_wordAt_26 (rfl : 26 + 1 = 27) ?_
              obtain ⟨hc1801, h⟩ := h
              obtain ⟨hi1802, h⟩ := h
              refine hp_iald E hR hc1801 hi1802 dX7_wordAt_27 (rfl : 27 + 1 = 28) ?_
              refine hp_bipush E (32 : Int32) (by decide) dX7_wordAt_28 (rfl : 28 + 2 = 30) ?_
              refine hp_icmp_eq E dX7_wordAt_30 (rfl : 30 + 3 = 33) (tgt := 39) (by decide) (fun hb => ?_) (fun hb => ?_)
              · have h := h.1 hb
                refine hp_iload E hl 5 rfl dX7_wordAt_39 (rfl : 39 + 2 = 41) ?_
                refine hp_iload_n E hl 2 rfl 2 rfl dX7_wordAt_41 (rfl : 41 + 1 = 42) ?_
                refine hp_iload_n E hl 1 rfl 1 rfl dX7_wordAt_42 (rfl : 42 + 1 = 43) ?_
                refine hp_isub E dX7_wordAt_43 (rfl : 43 + 1 = 44) ?_
                refine hp_icmp_ne E dX7_wordAt_44 (rfl : 44 + 3 = 47) (tgt := 51) (by decide) (fun hb => ?_) (fun hb => ?_)
                · have h := h.1 hb
                  refine hp_iconst E (1 : Int32) (by decide) dX7_wordAt_47 (rfl : 47 + 1 = 48) ?_
                  refine hp_goto E (tgt := 52) dX7_wordAt_48 (by decide) ?_
                  exact b52 _ _ _ _ _ _ _ h hl hR
                · have h := h.2 hb
                  refine hp_iconst E (0 : Int32) (by decide) dX7_wordAt_51 (rfl : 51 + 1 = 52) ?_
                  exact b52 _ _ _ _ _ _ _ h hl hR
              · have h := h.2 hb
                refine hp_iinc E hl (v5 + (1 : Int32)) 5 (lv' := [(0, hp_v B o), (1, .int a1), (2, .int a2), (3, .int v3), (4, .int v4)]) dX7_wordAt_33 (rfl : 33 + 3 = 36) rfl (by first | rfl | (congr 1)) (by decide) rfl (fun ls hl => ?_)
                refine hp_goto E (tgt := 18) dX7_wordAt_36 (by decide) ?_
                exact hK18 _ _ _ _ h (lv_sub hl [1, 2, 3, 4, 5, 0] rfl) hR
          exact key18 (μ18 v5 + 1) v5 H locs ls (Nat.lt_succ_self _) hI hl hR
        unfold wb_X7_wordAt_5 at h
        refine hp_iload E hl 4 rfl dX7_wordAt_5 (rfl : 5 + 2 = 7) ?_
        refine hp_aload_n E hl 0 rfl 0 rfl dX7_wordAt_7 (rfl : 7 + 1 = 8) ?_
        refine hp_getR E hR in_X7 hc0 rfl 22 (Nat.le_of_ble_eq_true rfl) rfl q1283 (fun _ h => h) dX7_wordAt_8 (rfl : 8 + 3 = 11) ?_
        obtain ⟨hc501, h⟩ := h
        refine hp_alen E hR (by rw [hc501]; decide) dX7_wordAt_11 (rfl : 11 + 1 = 12) ?_
        refine hp_icmp_ge E dX7_wordAt_12 (rfl : 12 + 3 = 15) (tgt := 126) (by decide) (fun hb => ?_) (fun hb => ?_)
        · have h := h.1 hb
          refine hp_iconst E (0 : Int32) (by decide) dX7_wordAt_15 (rfl : 15 + 1 = 16) ?_
          refine hp_istore E hl 5 (lv' := [(0, hp_v B o), (1, .int a1), (2, .int a2), (3, .int v3), (4, .int v4)]) dX7_wordAt_16 (rfl : 16 + 2 = 18) (by decide) rfl (fun ls hl => ?_)
          exact b18 _ _ _ _ _ _ h (lv_sub hl [1, 2, 3, 4, 5, 0] rfl) hR
        · have h := h.2 hb
          refine hp_iconst E (-1 : Int32) (by decide) dX7_wordAt_126 (rfl : 126 + 1 = 127) ?_
          exact hp_iret E hR ⟨rfl, h⟩ (Nat.le_of_ble_eq_true rfl) (Nat.le_of_ble_eq_true rfl) dX7_wordAt_127
    exact key5 (μ5 v3 v4 + 1) v3 v4 H locs ls (Nat.lt_succ_self _) hI hl hR
  unfold wp_X7_wordAt at h
  refine hp_iconst E (0 : Int32) (by decide) dX7_wordAt_0 (rfl : 0 + 1 = 1) ?_
  refine hp_istore_n E hl 3 rfl (lv' := [(0, hp_v B o), (1, .int a1), (2, .int a2)]) dX7_wordAt_1 (rfl : 1 + 1 = 2) (by decide) rfl (fun ls hl => ?_)
  refine hp_iconst E (0 : Int32) (by decide) dX7_wordAt_2 (rfl : 2 + 1 = 3) ?_
  refine hp_istore E hl 4 (lv' := [(3, .int (0 : Int32)), (0, hp_v B o), (1, .int a1), (2, .int a2)]) dX7_wordAt_3 (rfl : 3 + 2 = 5) (by decide) rfl (fun ls hl => ?_)
  exact b5 _ _ _ _ _ h (lv_sub hl [2, 3, 4, 1, 0] rfl) hR
def wb_X7_isDigit_35 (o : Nat) (a1 : Int32) (t0 : Int32) (S : hp_St) (Q : Int32 → Prop) : Prop := (t0 = 0 ∨ t0 = 1) ∧ Q t0
def wb_X7_isDigit_34 (o : Nat) (a1 : Int32) (S : hp_St) (Q : Int32 → Prop) : Prop := wb_X7_isDigit_35 o a1 (0 : Int32) S Q
def wp_X7_isDigit (o : Nat) (a1 : Int32) (S : hp_St) (Q : Int32 → Prop) : Prop := (((a1 < (st_I S o 25)) → (st_C S (st_R S o 0) = 50) ∧ (vp_in a1 (st_L S (st_R S o 0))) ∧ ((((st_I S (st_R S o 0) a1.toNatClampNeg) < (48 : Int32)) → wb_X7_isDigit_34 o a1 S Q) ∧ ((¬ ((st_I S (st_R S o 0) a1.toNatClampNeg) < (48 : Int32))) → (vp_in a1 (st_L S (st_R S o 0))) ∧ ((((st_I S (st_R S o 0) a1.toNatClampNeg) ≤ (57 : Int32)) → wb_X7_isDigit_35 o a1 (1 : Int32) S Q) ∧ ((¬ ((st_I S (st_R S o 0) a1.toNatClampNeg) ≤ (57 : Int32))) → wb_X7_isDigit_34 o a1 S Q))))) ∧ ((¬ (a1 < (st_I S o 25))) → wb_X7_isDigit_34 o a1 S Q))
theorem nf_X7_isDigit : hp_nf yX7_isDigit 1 = true := by decide +kernel
set_option maxHeartbeats 4000000 in
theorem m_X7_isDigit {l : Launch} {B : Nat} {D : va_G} {s0 : State} {b0 : Nat} (G : hp_G l B D s0 b0) (o : Nat) (a1 : Int32) (Si : hp_St) (Q : Int32 → Prop) (hc0 : st_C Si o = 7) (h : wp_X7_isDigit o a1 Si Q) : hp_M l B D s0 yX7_isDigit cX7_isDigit 2 (some .boolean) 2 128 0 0 [hp_v B o, .int a1] Si (hp_Qi B D s0 (fun r S' => S' = Si ∧ Q r)) := by
  refine hp_start G (by decide +kernel) rfl rfl (lv := [(0, hp_v B o), (1, .int a1)]) (by simp [lg_sl, hp_vc, hp_ci, hp_cj]) (by simp [lv_args, hp_vc, hp_ci, hp_cj]) ?_
  intro p e s m args below meth c E ls hl hR
  generalize hH : s.heap = H at hR ⊢
  generalize hLo : ([] : List Loc) = locs at hR ⊢
  have b35 : ∀ (t0 : Int32) (H : Heap) (locs : List Loc) (ls : Array Slot), wb_X7_isDigit_35 o a1 t0 Si Q → lv_has ls 2 [] → hp_S B D s0 Si H locs → W p l e ({ frames := 2, cells := 0, slots := 0, locals := 128 } : Room) s m args below meth c H locs 0 0 (MQ below (hp_Qi B D s0 (fun r S' => S' = Si ∧ Q r)) args s 0 0 (fun q => B < q)) (F0 m 35 ls [.int t0]) := by
    intro t0 H locs ls h hl hR
    unfold wb_X7_isDigit_35 at h
    obtain ⟨hz3501, h⟩ := h
    exact hp_zret E hR hz3501 ⟨rfl, h⟩ (Nat.le_of_ble_eq_true rfl) (Nat.le_of_ble_eq_true rfl) dX7_isDigit_35
  have b34 : ∀ (H : Heap) (locs : List Loc) (ls : Array Slot), wb_X7_isDigit_34 o a1 Si Q → lv_has ls 2 [] → hp_S B D s0 Si H locs → W p l e ({ frames := 2, cells := 0, slots := 0, locals := 128 } : Room) s m args below meth c H locs 0 0 (MQ below (hp_Qi B D s0 (fun r S' => S' = Si ∧ Q r)) args s 0 0 (fun q => B < q)) (F0 m 34 ls []) := by
    intro  H locs ls h hl hR
    unfold wb_X7_isDigit_34 at h
    refine hp_iconst E (0 : Int32) (by decide) dX7_isDigit_34 (rfl : 34 + 1 = 35) ?_
    exact b35 _ _ _ _ h hl hR
  unfold wp_X7_isDigit at h
  refine hp_iload_n E hl 1 rfl 1 rfl dX7_isDigit_0 (rfl : 0 + 1 = 1) ?_
  refine hp_aload_n E hl 0 rfl 0 rfl dX7_isDigit_1 (rfl : 1 + 1 = 2) ?_
  refine hp_getI E hR in_X7 hc0 rfl 25 (Nat.le_of_ble_eq_true rfl) rfl q1286 (fun _ h => h) dX7_isDigit_2 (rfl : 2 + 3 = 5) ?_
  refine hp_icmp_ge E dX7_isDigit_5 (rfl : 5 + 3 = 8) (tgt := 34) (by decide) (fun hb => ?_) (fun hb => ?_)
  · have h := h.1 hb
    refine hp_aload_n E hl 0 rfl 0 rfl dX7_isDigit_8 (rfl : 8 + 1 = 9) ?_
    refine hp_getR E hR in_X7 hc0 rfl 0 (Nat.le_of_ble_eq_true rfl) rfl q1261 (fun _ h => h) dX7_isDigit_9 (rfl : 9 + 3 = 12) ?_
    refine hp_iload_n E hl 1 rfl 1 rfl dX7_isDigit_12 (rfl : 12 + 1 = 13) ?_
    obtain ⟨hc1, h⟩ := h
    obtain ⟨hi2, h⟩ := h
    refine hp_iald E hR hc1 hi2 dX7_isDigit_13 (rfl : 13 + 1 = 14) ?_
    refine hp_bipush E (48 : Int32) (by decide) dX7_isDigit_14 (rfl : 14 + 2 = 16) ?_
    refine hp_icmp_lt E dX7_isDigit_16 (rfl : 16 + 3 = 19) (tgt := 34) (by decide) (fun hb => ?_) (fun hb => ?_)
    · have h := h.1 hb
      exact b34 _ _ _ h (lv_sub hl [] rfl) hR
    · have h := h.2 hb
      refine hp_aload_n E hl 0 rfl 0 rfl dX7_isDigit_19 (rfl : 19 + 1 = 20) ?_
      refine hp_getR E hR in_X7 hc0 rfl 0 (Nat.le_of_ble_eq_true rfl) rfl q1261 (fun _ h => h) dX7_isDigit_20 (rfl : 20 + 3 = 23) ?_
      refine hp_iload_n E hl 1 rfl 1 rfl dX7_isDigit_23 (rfl : 23 + 1 = 24) ?_
      obtain ⟨hi3, h⟩ := h
      refine hp_iald E hR hc1 hi3 dX7_isDigit_24 (rfl : 24 + 1 = 25) ?_
      refine hp_bipush E (57 : Int32) (by decide) dX7_isDigit_25 (rfl : 25 + 2 = 27) ?_
      refine hp_icmp_gt E dX7_isDigit_27 (rfl : 27 + 3 = 30) (tgt := 34) (by decide) (fun hb => ?_) (fun hb => ?_)
      · have h := h.1 hb
        refine hp_iconst E (1 : Int32) (by decide) dX7_isDigit_30 (rfl : 30 + 1 = 31) ?_
        refine hp_goto E (tgt := 35) dX7_isDigit_31 (by decide) ?_
        exact b35 _ _ _ _ h (lv_sub hl [] rfl) hR
      · have h := h.2 hb
        exact b34 _ _ _ h (lv_sub hl [] rfl) hR
  · have h := h.2 hb
    exact b34 _ _ _ h (lv_sub hl [] rfl) hR
def wb_X7_take_268 (o : Nat) (S : hp_St) (Q : hp_St → Prop) : Prop := Q S
def wb_X7_take_255 (o : Nat) (t0 : Nat) (t1 : Int32) (S : hp_St) (Q : hp_St → Prop) : Prop := (st_C S t0 = 7) ∧ (∀ S25502, S25502 = st_pI S t0 27 t1 → (∀ S25505, S25505 = st_pI S25502 o 26 ((st_I S25502 o 26) + (1 : Int32)) → wb_X7_take_268 o S25505 Q))
def wb_X7_take_219 (o : Nat) (t0 : Nat) (t1 : Int32) (S : hp_St) (K170 : hp_St → Prop) (Q : hp_St → Prop) : Prop := (st_C S t0 = 7) ∧ (∀ S21902, S21902 = st_pI S t0 28 t1 → (∀ S21905, S21905 = st_pI S21902 o 26 ((st_I S21902 o 26) + (1 : Int32)) → K170 S21905))
def wb_X7_take_170 (o : Nat) (S : hp_St) (K170 : hp_St → Prop) (Q : hp_St → Prop) : Prop := wp_X7_isDigit o (st_I S o 26) S (fun z17001 => (((z17001 = 0) → wb_X7_take_268 o S Q) ∧ ((¬ (z17001 = 0)) → ((((st_I S o 28) ≤ (9999 : Int32)) → (st_C S (st_R S o 0) = 50) ∧ (vp_in (st_I S o 26) (st_L S (st_R S o 0))) ∧ wb_X7_take_219 o o ((((10 : Int32) * (st_I S o 28)) + (st_I S (st_R S o 0) (st_I S o 26).toNatClampNeg)) - (48 : Int32)) S K170 Q) ∧ ((¬ ((st_I S o 28) ≤ (9999 : Int32))) → wb_X7_take_219 o o (st_I S o 28) S K170 Q)))))
def wl_X7_take_170 (o : Nat) (S : hp_St) (Q : hp_St → Prop) : Prop := ∃ (I : hp_St → Prop) (μ : hp_St → Nat), I S ∧ ∀ (S1 : hp_St), hp_mono S S1 → I S1 → wb_X7_take_170 o S1 (fun S2 => I S2 ∧ μ S2 < μ S1) Q
def wb_X7_take_143 (o : Nat) (t0 : Nat) (t1 : Int32) (S : hp_St) (Q : hp_St → Prop) : Prop := (st_C S t0 = 7) ∧ (∀ S14302, S14302 = st_pI S t0 27 t1 → wb_X7_take_268 o S14302 Q)
def wb_X7_take_90 (o : Nat) (S : hp_St) (K90 : hp_St → Prop) (Q : hp_St → Prop) : Prop := wp_X7_isSmall o (st_I S o 26) S (fun z9001 => (((z9001 = 0) → wp_X7_wordAt o (st_I S o 29) (st_I S o 26) S (fun z9002 => (∀ S9003, S9003 = st_pI S o 28 z9002 → ((((st_I S9003 o 28) < 0) → wb_X7_take_143 o o (4 : Int32) S9003 Q) ∧ ((¬ ((st_I S9003 o 28) < 0)) → wb_X7_take_143 o o (1 : Int32) S9003 Q))))) ∧ ((¬ (z9001 = 0)) → (∀ S9006, S9006 = st_pI S o 26 ((st_I S o 26) + (1 : Int32)) → K90 S9006))))
def wl_X7_take_90 (o : Nat) (S : hp_St) (Q : hp_St → Prop) : Prop := ∃ (I : hp_St → Prop) (μ : hp_St → Nat), I S ∧ ∀ (S1 : hp_St), hp_mono S S1 → I S1 → wb_X7_take_90 o S1 (fun S2 => I S2 ∧ μ S2 < μ S1) Q
def wb_X7_take_52 (o : Nat) (S : hp_St) (Q : hp_St → Prop) : Prop := (∀ S5201, S5201 = st_pI S o 29 (st_I S o 26) → ((((st_I S5201 o 26) = (st_I S5201 o 25)) → (∀ S5204, S5204 = st_pI S5201 o 27 (0 : Int32) → wb_X7_take_268 o S5204 Q)) ∧ ((¬ ((st_I S5201 o 26) = (st_I S5201 o 25))) → wp_X7_isSmall o (st_I S5201 o 26) S5201 (fun z5207 => (((z5207 = 0) → wp_X7_isDigit o (st_I S5201 o 26) S5201 (fun z5208 => (((z5208 = 0) → (st_C S5201 (st_R S5201 o 0) = 50) ∧ (vp_in (st_I S5201 o 26) (st_L S5201 (st_R S5201 o 0))) ∧ ((((st_I S5201 (st_R S5201 o 0) (st_I S5201 o 26).toNatClampNeg) = (59 : Int32)) → wb_X7_take_255 o o (3 : Int32) S5201 Q) ∧ ((¬ ((st_I S5201 (st_R S5201 o 0) (st_I S5201 o 26).toNatClampNeg) = (59 : Int32))) → wb_X7_take_255 o o (4 : Int32) S5201 Q))) ∧ ((¬ (z5208 = 0)) → (∀ S5211, S5211 = st_pI S5201 o 27 (2 : Int32) → (∀ S5214, S5214 = st_pI S5211 o 28 (0 : Int32) → wl_X7_take_170 o S5214 Q)))))) ∧ ((¬ (z5207 = 0)) → wl_X7_take_90 o S5201 Q))))))
def wb_X7_take_39 (o : Nat) (S : hp_St) (K0 : hp_St → Prop) (Q : hp_St → Prop) : Prop := (∀ S3901, S3901 = st_pI S o 26 ((st_I S o 26) + (1 : Int32)) → K0 S3901)
def wb_X7_take_0 (o : Nat) (S : hp_St) (K0 : hp_St → Prop) (Q : hp_St → Prop) : Prop := ((((st_I S o 26) < (st_I S o 25)) → (st_C S (st_R S o 0) = 50) ∧ (vp_in (st_I S o 26) (st_L S (st_R S o 0))) ∧ ((((st_I S (st_R S o 0) (st_I S o 26).toNatClampNeg) = (10 : Int32)) → wb_X7_take_39 o S K0 Q) ∧ ((¬ ((st_I S (st_R S o 0) (st_I S o 26).toNatClampNeg) = (10 : Int32))) → (vp_in (st_I S o 26) (st_L S (st_R S o 0))) ∧ ((((st_I S (st_R S o 0) (st_I S o 26).toNatClampNeg) = (32 : Int32)) → wb_X7_take_39 o S K0 Q) ∧ ((¬ ((st_I S (st_R S o 0) (st_I S o 26).toNatClampNeg) = (32 : Int32))) → wb_X7_take_52 o S Q))))) ∧ ((¬ ((st_I S o 26) < (st_I S o 25))) → wb_X7_take_52 o S Q))
def wl_X7_take_0 (o : Nat) (S : hp_St) (Q : hp_St → Prop) : Prop := ∃ (I : hp_St → Prop) (μ : hp_St → Nat), I S ∧ ∀ (S1 : hp_St), hp_mono S S1 → I S1 → wb_X7_take_0 o S1 (fun S2 => I S2 ∧ μ S2 < μ S1) Q
def wp_X7_take (o : Nat) (S : hp_St) (Q : hp_St → Prop) : Prop := wl_X7_take_0 o S Q
theorem nf_X7_take : hp_nf yX7_take 0 = true := by decide +kernel
set_option maxHeartbeats 4000000 in
theorem m_X7_take {l : Launch} {B : Nat} {D : va_G} {s0 : State} {b0 : Nat} (G : hp_G l B D s0 b0) (o : Nat) (Si : hp_St) (Q : hp_St → Prop) (hc0 : st_C Si o = 7) (h : wp_X7_take o Si Q) : hp_M l B D s0 yX7_take cX7_take 1 none 3 192 0 0 [hp_v B o] Si (hp_Qv B D s0 (fun S' => hp_mono Si S' ∧ Q S')) := by
  refine hp_start G (by decide +kernel) rfl rfl (lv := [(0, hp_v B o)]) (by simp [lg_sl, hp_vc, hp_ci, hp_cj]) (by simp [lv_args, hp_vc, hp_ci, hp_cj]) ?_
  intro p e s m args below meth c E ls hl hR
  have hm : hp_mono Si Si := hp_mono.rf
  generalize hH : s.heap = H at hR ⊢
  generalize hLo : ([] : List Loc) = locs at hR ⊢
  have b268 : ∀ (S : hp_St) (H : Heap) (locs : List Loc) (ls : Array Slot), wb_X7_take_268 o S Q → lv_has ls 1 [] → hp_S B D s0 S H locs → hp_mono Si S → W p l e ({ frames := 3, cells := 0, slots := 0, locals := 192 } : Room) s m args below meth c H locs 0 0 (MQ below (hp_Qv B D s0 (fun S' => hp_mono Si S' ∧ Q S')) args s 0 0 (fun q => B < q)) (F0 m 268 ls []) := by
    intro S H locs ls h hl hR hm
    unfold wb_X7_take_268 at h
    exact hp_vret E hR ⟨hm, h⟩ (Nat.le_of_ble_eq_true rfl) (Nat.le_of_ble_eq_true rfl) dX7_take_268
  have b255 : ∀ (t0 : Nat) (t1 : Int32) (S : hp_St) (H : Heap) (locs : List Loc) (ls : Array Slot), wb_X7_take_255 o t0 t1 S Q → lv_has ls 1 [(0, hp_v B o)] → hp_S B D s0 S H locs → hp_mono Si S → W p l e ({ frames := 3, cells := 0, slots := 0, locals := 192 } : Room) s m args below meth c H locs 0 0 (MQ below (hp_Qv B D s0 (fun S' => hp_mono Si S' ∧ Q S')) args s 0 0 (fun q => B < q)) (F0 m 255 ls [.int t1, hp_v B t0]) := by
    intro t0 t1 S H locs ls h hl hR hm
    unfold wb_X7_take_255 at h
    obtain ⟨hc25501, h⟩ := h
    refine hx_putI E hR in_X7 tyX7 tyX7_ok nmX7 hc25501 rfl 27 (Nat.le_of_ble_eq_true rfl) rfl q1288 (fun _ h => h) (Or.inl rfl) (Or.inl rfl) dX7_take_255 (rfl : 255 + 3 = 258) (fun S25502 H locs e25504 hm25503 hR => ?_)
    have h := h S25502 e25504
    have hm := hp_mono.tr hm hm25503
    refine hp_aload_n E hl 0 rfl 0 rfl dX7_take_258 (rfl : 258 + 1 = 259) ?_
    refine hp_dup E hp_vc dX7_take_259 (rfl : 259 + 1 = 260) ?_
    refine hp_getI E hR in_X7 (hp_mono.c hm hc0) rfl 26 (Nat.le_of_ble_eq_true rfl) rfl q1287 (fun _ h => h) dX7_take_260 (rfl : 260 + 3 = 263) ?_
    refine hp_iconst E (1 : Int32) (by decide) dX7_take_263 (rfl : 263 + 1 = 264) ?_
    refine hp_iadd E dX7_take_264 (rfl : 264 + 1 = 265) ?_
    refine hx_putI E hR in_X7 tyX7 tyX7_ok nmX7 (hp_mono.c hm hc0) rfl 26 (Nat.le_of_ble_eq_true rfl) rfl q1287 (fun _ h => h) (Or.inl rfl) (Or.inl rfl) dX7_take_265 (rfl : 265 + 3 = 268) (fun S25505 H locs e25507 hm25506 hR => ?_)
    have h := h S25505 e25507
    have hm := hp_mono.tr hm hm25506
    exact b268 _ _ _ _ h (lv_sub hl [] rfl) hR hm
  have b170 : ∀ (S : hp_St) (H : Heap) (locs : List Loc) (ls : Array Slot), wl_X7_take_170 o S Q → lv_has ls 1 [(0, hp_v B o)] → hp_S B D s0 S H locs → hp_mono Si S → W p l e ({ frames := 3, cells := 0, slots := 0, locals := 192 } : Room) s m args below meth c H locs 0 0 (MQ below (hp_Qv B D s0 (fun S' => hp_mono Si S' ∧ Q S')) args s 0 0 (fun q => B < q)) (F0 m 170 ls []) := by
    intro S H locs ls h hl hR hm
    obtain ⟨I170, μ170, hI, hst⟩ := h
    obtain ⟨Sa170, eSa170⟩ : ∃ x, x = S := ⟨_, rfl⟩
    subst eSa170
    have key170 : ∀ (N : Nat) (Su170 : hp_St) (H : Heap) (locs : List Loc) (ls : Array Slot), μ170 Su170 < N → I170 Su170 → lv_has ls 1 [(0, hp_v B o)] → hp_S B D s0 Su170 H locs → hp_mono Sa170 Su170 → W p l e ({ frames := 3, cells := 0, slots := 0, locals := 192 } : Room) s m args below meth c H locs 0 0 (MQ below (hp_Qv B D s0 (fun S' => hp_mono Si S' ∧ Q S')) args s 0 0 (fun q => B < q)) (F0 m 170 ls []) := by
      intro N
      induction N with
      | zero =>
        intro Su170 H locs ls hN
        exact absurd hN (Nat.not_lt_zero _)
      | succ N ih170 =>
        intro Su170 H locs ls hN hI hl hR ms170
        have h := hst Su170 ms170 hI
        have hm := hp_mono.tr hm ms170
        obtain ⟨K170, hKe170⟩ : ∃ K : hp_St → Prop, K = (fun Sk => I170 Sk ∧ μ170 Sk < μ170 Su170) := ⟨_, rfl⟩
        rw [← hKe170] at h
        have hK170 : ∀ (Sk : hp_St) (H : Heap) (locs : List Loc) (ls : Array Slot), K170 Sk → lv_has ls 1 [(0, hp_v B o)] → hp_S B D s0 Sk H locs → hp_mono Sa170 Sk → W p l e ({ frames := 3, cells := 0, slots := 0, locals := 192 } : Room) s m args below meth c H locs 0 0 (MQ below (hp_Qv B D s0 (fun S' => hp_mono Si S' ∧ Q S')) args s 0 0 (fun q => B < q)) (F0 m 170 ls []) := by
          intro Sk H locs ls hI hl hR ms
          rw [hKe170] at hI
          exact ih170 Sk H locs ls (Nat.lt_of_lt_of_le hI.2 (Nat.le_of_lt_succ hN)) hI.1 hl hR ms
        have b219 : ∀ (t0 : Nat) (t1 : Int32) (S : hp_St) (H : Heap) (locs : List Loc) (ls : Array Slot), wb_X7_take_219 o t0 t1 S K170 Q → lv_has ls 1 [(0, hp_v B o)] → hp_S B D s0 S H locs → hp_mono Si S → hp_mono Sa170 S → W p l e ({ frames := 3, cells := 0, slots := 0, locals := 192 } : Room) s m args below meth c H locs 0 0 (MQ below (hp_Qv B D s0 (fun S' => hp_mono Si S' ∧ Q S')) args s 0 0 (fun q => B < q)) (F0 m 219 ls [.int t1, hp_v B t0]) := by
          intro t0 t1 S H locs ls h hl hR hm ms170
          unfold wb_X7_take_219 at h
          obtain ⟨hc21901, h⟩ := h
          refine hx_putI E hR in_X7 tyX7 tyX7_ok nmX7 hc21901 rfl 28 (Nat.le_of_ble_eq_true rfl) rfl q1289 (fun _ h => h) (Or.inl rfl) (Or.inl rfl) dX7_take_219 (rfl : 219 + 3 = 222) (fun S21902 H locs e21904 hm21903 hR => ?_)
          have h := h S21902 e21904
          have hm := hp_mono.tr hm hm21903
          have ms170 := hp_mono.tr ms170 hm21903
          refine hp_aload_n E hl 0 rfl 0 rfl dX7_take_222 (rfl : 222 + 1 = 223) ?_
          refine hp_dup E hp_vc dX7_take_223 (rfl : 223 + 1 = 224) ?_
          refine hp_getI E hR in_X7 (hp_mono.c hm hc0) rfl 26 (Nat.le_of_ble_eq_true rfl) rfl q1287 (fun _ h => h) dX7_take_224 (rfl : 224 + 3 = 227) ?_
          refine hp_iconst E (1 : Int32) (by decide) dX7_take_227 (rfl : 227 + 1 = 228) ?_
          refine hp_iadd E dX7_take_228 (rfl : 228 + 1 = 229) ?_
          refine hx_putI E hR in_X7 tyX7 tyX7_ok nmX7 (hp_mono.c hm hc0) rfl 26 (Nat.le_of_ble_eq_true rfl) rfl q1287 (fun _ h => h) (Or.inl rfl) (Or.inl rfl) dX7_take_229 (rfl : 229 + 3 = 232) (fun S21905 H locs e21907 hm21906 hR => ?_)
          have h := h S21905 e21907
          have hm := hp_mono.tr hm hm21906
          have ms170 := hp_mono.tr ms170 hm21906
          refine hp_goto E (tgt := 170) dX7_take_232 (by decide) ?_
          exact hK170 _ _ _ _ h hl hR ms170
        unfold wb_X7_take_170 at h
        refine hp_aload_n E hl 0 rfl 0 rfl dX7_take_170 (rfl : 170 + 1 = 171) ?_
        refine hp_aload_n E hl 0 rfl 0 rfl dX7_take_171 (rfl : 171 + 1 = 172) ?_
        refine hp_getI E hR in_X7 (hp_mono.c hm hc0) rfl 26 (Nat.le_of_ble_eq_true rfl) rfl q1287 (fun _ h => h) dX7_take_172 (rfl : 172 + 3 = 175) ?_
        refine hp_fi (hp_rV E hR hl (m_X7_isDigit G _ _ _ _ (hp_mono.c hm hc0) h) (hp_mono.c hm hc0) (ci := 6) rfl rfl q1460 q1462 qs35 q82 q1463 nf_X7_isDigit ⟨Nat.le_of_ble_eq_true rfl, Nat.le_of_ble_eq_true rfl⟩ (rest := []) rfl (Nat.le_of_ble_eq_true rfl) dX7_take_175 ⟨Nat.le_of_ble_eq_true rfl, Nat.le_of_ble_eq_true rfl⟩) hR (rfl : 175 + 3 = 178) (fun z17001 Sx H locs hq hR => ?_)
        obtain ⟨hSx, h⟩ := hq
        rw [hSx] at hR
        refine hp_if_eq E dX7_take_178 (rfl : 178 + 3 = 181) (tgt := 268) (by decide) (fun hb => ?_) (fun hb => ?_)
        · have h := h.1 hb
          exact b268 _ _ _ _ h (lv_sub hl [] rfl) hR hm
        · have h := h.2 hb
          refine hp_aload_n E hl 0 rfl 0 rfl dX7_take_181 (rfl : 181 + 1 = 182) ?_
          refine hp_aload_n E hl 0 rfl 0 rfl dX7_take_182 (rfl : 182 + 1 = 183) ?_
          refine hp_getI E hR in_X7 (hp_mono.c hm hc0) rfl 28 (Nat.le_of_ble_eq_true rfl) rfl q1289 (fun _ h => h) dX7_take_183 (rfl : 183 + 3 = 186) ?_
          refine hp_sipush E (9999 : Int32) (by decide) dX7_take_186 (rfl : 186 + 3 = 189) ?_
          refine hp_icmp_le E dX7_take_189 (rfl : 189 + 3 = 192) (tgt := 199) (by decide) (fun hb => ?_) (fun hb => ?_)
          · have h := h.1 hb
            refine hp_bipush E (10 : Int32) (by decide) dX7_take_199 (rfl : 199 + 2 = 201) ?_
            refine hp_aload_n E hl 0 rfl 0 rfl dX7_take_201 (rfl : 201 + 1 = 202) ?_
            refine hp_getI E hR in_X7 (hp_mono.c hm hc0) rfl 28 (Nat.le_of_ble_eq_true rfl) rfl q1289 (fun _ h => h) dX7_take_202 (rfl : 202 + 3 = 205) ?_
            refine hp_imul E dX7_take_205 (rfl : 205 + 1 = 206) ?_
            refine hp_aload_n E hl 0 rfl 0 rfl dX7_take_206 (rfl : 206 + 1 = 207) ?_
            refine hp_getR E hR in_X7 (hp_mono.c hm hc0) rfl 0 (Nat.le_of_ble_eq_true rfl) rfl q1261 (fun _ h => h) dX7_take_207 (rfl : 207 + 3 = 210) ?_
            refine hp_aload_n E hl 0 rfl 0 rfl dX7_take_210 (rfl : 210 + 1 = 211) ?_
            refine hp_getI E hR in_X7 (hp_mono.c hm hc0) rfl 26 (Nat.le_of_ble_eq_true rfl) rfl q1287 (fun _ h => h) dX7_take_211 (rfl : 211 + 3 = 214) ?_
            obtain ⟨hc17002, h⟩ := h
            obtain ⟨hi17003, h⟩ := h
            refine hp_iald E hR hc17002 hi17003 dX7_take_214 (rfl : 214 + 1 = 215) ?_
            refine hp_iadd E dX7_take_215 (rfl : 215 + 1 = 216) ?_
            refine hp_bipush E (48 : Int32) (by decide) dX7_take_216 (rfl : 216 + 2 = 218) ?_
            refine hp_isub E dX7_take_218 (rfl : 218 + 1 = 219) ?_
            exact b219 _ _ _ _ _ _ h hl hR hm ms170
          · have h := h.2 hb
            refine hp_aload_n E hl 0 rfl 0 rfl dX7_take_192 (rfl : 192 + 1 = 193) ?_
            refine hp_getI E hR in_X7 (hp_mono.c hm hc0) rfl 28 (Nat.le_of_ble_eq_true rfl) rfl q1289 (fun _ h => h) dX7_take_193 (rfl : 193 + 3 = 196) ?_
            refine hp_goto E (tgt := 219) dX7_take_196 (by decide) ?_
            exact b219 _ _ _ _ _ _ h hl hR hm ms170
    exact key170 (μ170 Sa170 + 1) _ H locs ls (Nat.lt_succ_self _) hI hl hR hp_mono.rf
  have b143 : ∀ (t0 : Nat) (t1 : Int32) (S : hp_St) (H : Heap) (locs : List Loc) (ls : Array Slot), wb_X7_take_143 o t0 t1 S Q → lv_has ls 1 [] → hp_S B D s0 S H locs → hp_mono Si S → W p l e ({ frames := 3, cells := 0, slots := 0, locals := 192 } : Room) s m args below meth c H locs 0 0 (MQ below (hp_Qv B D s0 (fun S' => hp_mono Si S' ∧ Q S')) args s 0 0 (fun q => B < q)) (F0 m 143 ls [.int t1, hp_v B t0]) := by
    intro t0 t1 S H locs ls h hl hR hm
    unfold wb_X7_take_143 at h
    obtain ⟨hc14301, h⟩ := h
    refine hx_putI E hR in_X7 tyX7 tyX7_ok nmX7 hc14301 rfl 27 (Nat.le_of_ble_eq_true rfl) rfl q1288 (fun _ h => h) (Or.inl rfl) (Or.inl rfl) dX7_take_143 (rfl : 143 + 3 = 146) (fun S14302 H locs e14304 hm14303 hR => ?_)
    have h := h S14302 e14304
    have hm := hp_mono.tr hm hm14303
    refine hp_goto E (tgt := 268) dX7_take_146 (by decide) ?_
    exact b268 _ _ _ _ h hl hR hm
  have b90 : ∀ (S : hp_St) (H : Heap) (locs : List Loc) (ls : Array Slot), wl_X7_take_90 o S Q → lv_has ls 1 [(0, hp_v B o)] → hp_S B D s0 S H locs → hp_mono Si S → W p l e ({ frames := 3, cells := 0, slots := 0, locals := 192 } : Room) s m args below meth c H locs 0 0 (MQ below (hp_Qv B D s0 (fun S' => hp_mono Si S' ∧ Q S')) args s 0 0 (fun q => B < q)) (F0 m 90 ls []) := by
    intro S H locs ls h hl hR hm
    obtain ⟨I90, μ90, hI, hst⟩ := h
    obtain ⟨Sa90, eSa90⟩ : ∃ x, x = S := ⟨_, rfl⟩
    subst eSa90
    have key90 : ∀ (N : Nat) (Su90 : hp_St) (H : Heap) (locs : List Loc) (ls : Array Slot), μ90 Su90 < N → I90 Su90 → lv_has ls 1 [(0, hp_v B o)] → hp_S B D s0 Su90 H locs → hp_mono Sa90 Su90 → W p l e ({ frames := 3, cells := 0, slots := 0, locals := 192 } : Room) s m args below meth c H locs 0 0 (MQ below (hp_Qv B D s0 (fun S' => hp_mono Si S' ∧ Q S')) args s 0 0 (fun q => B < q)) (F0 m 90 ls []) := by
      intro N
      induction N with
      | zero =>
        intro Su90 H locs ls hN
        exact absurd hN (Nat.not_lt_zero _)
      | succ N ih90 =>
        intro Su90 H locs ls hN hI hl hR ms90
        have h := hst Su90 ms90 hI
        have hm := hp_mono.tr hm ms90
        obtain ⟨K90, hKe90⟩ : ∃ K : hp_St → Prop, K = (fun Sk => I90 Sk ∧ μ90 Sk < μ90 Su90) := ⟨_, rfl⟩
        rw [← hKe90] at h
        have hK90 : ∀ (Sk : hp_St) (H : Heap) (locs : List Loc) (ls : Array Slot), K90 Sk → lv_has ls 1 [(0, hp_v B o)] → hp_S B D s0 Sk H locs → hp_mono Sa90 Sk → W p l e ({ frames := 3, cells := 0, slots := 0, locals := 192 } : Room) s m args below meth c H locs 0 0 (MQ below (hp_Qv B D s0 (fun S' => hp_mono Si S' ∧ Q S')) args s 0 0 (fun q => B < q)) (F0 m 90 ls []) := by
          intro Sk H locs ls hI hl hR ms
          rw [hKe90] at hI
          exact ih90 Sk H locs ls (Nat.lt_of_lt_of_le hI.2 (Nat.le_of_lt_succ hN)) hI.1 hl hR ms
        unfold wb_X7_take_90 at h
        refine hp_aload_n E hl 0 rfl 0 rfl dX7_take_90 (rfl : 90 + 1 = 91) ?_
        refine hp_aload_n E hl 0 rfl 0 rfl dX7_take_91 (rfl : 91 + 1 = 92) ?_
        refine hp_getI E hR in_X7 (hp_mono.c hm hc0) rfl 26 (Nat.le_of_ble_eq_true rfl) rfl q1287 (fun _ h => h) dX7_take_92 (rfl : 92 + 3 = 95) ?_
        refine hp_fi (hp_rV E hR hl (m_X7_isSmall G _ _ _ _ (hp_mono.c hm hc0) h) (hp_mono.c hm hc0) (ci := 6) rfl rfl q1452 q1454 qs33 q82 q1455 nf_X7_isSmall ⟨Nat.le_of_ble_eq_true rfl, Nat.le_of_ble_eq_true rfl⟩ (rest := []) rfl (Nat.le_of_ble_eq_true rfl) dX7_take_95 ⟨Nat.le_of_ble_eq_true rfl, Nat.le_of_ble_eq_true rfl⟩) hR (rfl : 95 + 3 = 98) (fun z9001 Sx H locs hq hR => ?_)
        obtain ⟨hSx, h⟩ := hq
        rw [hSx] at hR
        refine hp_if_eq E dX7_take_98 (rfl : 98 + 3 = 101) (tgt := 114) (by decide) (fun hb => ?_) (fun hb => ?_)
        · have h := h.1 hb
          refine hp_aload_n E hl 0 rfl 0 rfl dX7_take_114 (rfl : 114 + 1 = 115) ?_
          refine hp_aload_n E hl 0 rfl 0 rfl dX7_take_115 (rfl : 115 + 1 = 116) ?_
          refine hp_aload_n E hl 0 rfl 0 rfl dX7_take_116 (rfl : 116 + 1 = 117) ?_
          refine hp_getI E hR in_X7 (hp_mono.c hm hc0) rfl 29 (Nat.le_of_ble_eq_true rfl) rfl q1290 (fun _ h => h) dX7_take_117 (rfl : 117 + 3 = 120) ?_
          refine hp_aload_n E hl 0 rfl 0 rfl dX7_take_120 (rfl : 120 + 1 = 121) ?_
          refine hp_getI E hR in_X7 (hp_mono.c hm hc0) rfl 26 (Nat.le_of_ble_eq_true rfl) rfl q1287 (fun _ h => h) dX7_take_121 (rfl : 121 + 3 = 124) ?_
          refine hp_fi (hp_rV E hR hl (m_X7_wordAt G _ _ _ _ _ (hp_mono.c hm hc0) h) (hp_mono.c hm hc0) (ci := 6) rfl rfl q1456 q1458 qs34 q82 q1459 nf_X7_wordAt ⟨Nat.le_of_ble_eq_true rfl, Nat.le_of_ble_eq_true rfl⟩ (rest := [hp_v B o]) rfl (Nat.le_of_ble_eq_true rfl) dX7_take_124 ⟨Nat.le_of_ble_eq_true rfl, Nat.le_of_ble_eq_true rfl⟩) hR (rfl : 124 + 3 = 127) (fun z9002 Sx H locs hq hR => ?_)
          obtain ⟨hSx, h⟩ := hq
          rw [hSx] at hR
          refine hx_putI E hR in_X7 tyX7 tyX7_ok nmX7 (hp_mono.c hm hc0) rfl 28 (Nat.le_of_ble_eq_true rfl) rfl q1289 (fun _ h => h) (Or.inl rfl) (Or.inl rfl) dX7_take_127 (rfl : 127 + 3 = 130) (fun S9003 H locs e9005 hm9004 hR => ?_)
          have h := h S9003 e9005
          have hm := hp_mono.tr hm hm9004
          have ms90 := hp_mono.tr ms90 hm9004
          refine hp_aload_n E hl 0 rfl 0 rfl dX7_take_130 (rfl : 130 + 1 = 131) ?_
          refine hp_aload_n E hl 0 rfl 0 rfl dX7_take_131 (rfl : 131 + 1 = 132) ?_
          refine hp_getI E hR in_X7 (hp_mono.c hm hc0) rfl 28 (Nat.le_of_ble_eq_true rfl) rfl q1289 (fun _ h => h) dX7_take_132 (rfl : 132 + 3 = 135) ?_
          refine hp_if_ge E dX7_take_135 (rfl : 135 + 3 = 138) (tgt := 142) (by decide) (fun hb => ?_) (fun hb => ?_)
          · have h := h.1 hb
            refine hp_iconst E (4 : Int32) (by decide) dX7_take_138 (rfl : 138 + 1 = 139) ?_
            refine hp_goto E (tgt := 143) dX7_take_139 (by decide) ?_
            exact b143 _ _ _ _ _ _ h (lv_sub hl [] rfl) hR hm
          · have h := h.2 hb
            refine hp_iconst E (1 : Int32) (by decide) dX7_take_142 (rfl : 142 + 1 = 143) ?_
            exact b143 _ _ _ _ _ _ h (lv_sub hl [] rfl) hR hm
        · have h := h.2 hb
          refine hp_aload_n E hl 0 rfl 0 rfl dX7_take_101 (rfl : 101 + 1 = 102) ?_
          refine hp_dup E hp_vc dX7_take_102 (rfl : 102 + 1 = 103) ?_
          refine hp_getI E hR in_X7 (hp_mono.c hm hc0) rfl 26 (Nat.le_of_ble_eq_true rfl) rfl q1287 (fun _ h => h) dX7_take_103 (rfl : 103 + 3 = 106) ?_
          refine hp_iconst E (1 : Int32) (by decide) dX7_take_106 (rfl : 106 + 1 = 107) ?_
          refine hp_iadd E dX7_take_107 (rfl : 107 + 1 = 108) ?_
          refine hx_putI E hR in_X7 tyX7 tyX7_ok nmX7 (hp_mono.c hm hc0) rfl 26 (Nat.le_of_ble_eq_true rfl) rfl q1287 (fun _ h => h) (Or.inl rfl) (Or.inl rfl) dX7_take_108 (rfl : 108 + 3 = 111) (fun S9006 H locs e9008 hm9007 hR => ?_)
          have h := h S9006 e9008
          have hm := hp_mono.tr hm hm9007
          have ms90 := hp_mono.tr ms90 hm9007
          refine hp_goto E (tgt := 90) dX7_take_111 (by decide) ?_
          exact hK90 _ _ _ _ h hl hR ms90
    exact key90 (μ90 Sa90 + 1) _ H locs ls (Nat.lt_succ_self _) hI hl hR hp_mono.rf
  have b52 : ∀ (S : hp_St) (H : Heap) (locs : List Loc) (ls : Array Slot), wb_X7_take_52 o S Q → lv_has ls 1 [(0, hp_v B o)] → hp_S B D s0 S H locs → hp_mono Si S → W p l e ({ frames := 3, cells := 0, slots := 0, locals := 192 } : Room) s m args below meth c H locs 0 0 (MQ below (hp_Qv B D s0 (fun S' => hp_mono Si S' ∧ Q S')) args s 0 0 (fun q => B < q)) (F0 m 52 ls []) := by
    intro S H locs ls h hl hR hm
    unfold wb_X7_take_52 at h
    refine hp_aload_n E hl 0 rfl 0 rfl dX7_take_52 (rfl : 52 + 1 = 53) ?_
    refine hp_aload_n E hl 0 rfl 0 rfl dX7_take_53 (rfl : 53 + 1 = 54) ?_
    refine hp_getI E hR in_X7 (hp_mono.c hm hc0) rfl 26 (Nat.le_of_ble_eq_true rfl) rfl q1287 (fun _ h => h) dX7_take_54 (rfl : 54 + 3 = 57) ?_
    refine hx_putI E hR in_X7 tyX7 tyX7_ok nmX7 (hp_mono.c hm hc0) rfl 29 (Nat.le_of_ble_eq_true rfl) rfl q1290 (fun _ h => h) (Or.inl rfl) (Or.inl rfl) dX7_take_57 (rfl : 57 + 3 = 60) (fun S5201 H locs e5203 hm5202 hR => ?_)
    have h := h S5201 e5203
    have hm := hp_mono.tr hm hm5202
    refine hp_aload_n E hl 0 rfl 0 rfl dX7_take_60 (rfl : 60 + 1 = 61) ?_
    refine hp_getI E hR in_X7 (hp_mono.c hm hc0) rfl 26 (Nat.le_of_ble_eq_true rfl) rfl q1287 (fun _ h => h) dX7_take_61 (rfl : 61 + 3 = 64) ?_
    refine hp_aload_n E hl 0 rfl 0 rfl dX7_take_64 (rfl : 64 + 1 = 65) ?_
    refine hp_getI E hR in_X7 (hp_mono.c hm hc0) rfl 25 (Nat.le_of_ble_eq_true rfl) rfl q1286 (fun _ h => h) dX7_take_65 (rfl : 65 + 3 = 68) ?_
    refine hp_icmp_ne E dX7_take_68 (rfl : 68 + 3 = 71) (tgt := 79) (by decide) (fun hb => ?_) (fun hb => ?_)
    · have h := h.1 hb
      refine hp_aload_n E hl 0 rfl 0 rfl dX7_take_71 (rfl : 71 + 1 = 72) ?_
      refine hp_iconst E (0 : Int32) (by decide) dX7_take_72 (rfl : 72 + 1 = 73) ?_
      refine hx_putI E hR in_X7 tyX7 tyX7_ok nmX7 (hp_mono.c hm hc0) rfl 27 (Nat.le_of_ble_eq_true rfl) rfl q1288 (fun _ h => h) (Or.inl rfl) (Or.inl rfl) dX7_take_73 (rfl : 73 + 3 = 76) (fun S5204 H locs e5206 hm5205 hR => ?_)
      have h := h S5204 e5206
      have hm := hp_mono.tr hm hm5205
      refine hp_goto E (tgt := 268) dX7_take_76 (by decide) ?_
      exact b268 _ _ _ _ h (lv_sub hl [] rfl) hR hm
    · have h := h.2 hb
      refine hp_aload_n E hl 0 rfl 0 rfl dX7_take_79 (rfl : 79 + 1 = 80) ?_
      refine hp_aload_n E hl 0 rfl 0 rfl dX7_take_80 (rfl : 80 + 1 = 81) ?_
      refine hp_getI E hR in_X7 (hp_mono.c hm hc0) rfl 26 (Nat.le_of_ble_eq_true rfl) rfl q1287 (fun _ h => h) dX7_take_81 (rfl : 81 + 3 = 84) ?_
      refine hp_fi (hp_rV E hR hl (m_X7_isSmall G _ _ _ _ (hp_mono.c hm hc0) h) (hp_mono.c hm hc0) (ci := 6) rfl rfl q1452 q1454 qs33 q82 q1455 nf_X7_isSmall ⟨Nat.le_of_ble_eq_true rfl, Nat.le_of_ble_eq_true rfl⟩ (rest := []) rfl (Nat.le_of_ble_eq_true rfl) dX7_take_84 ⟨Nat.le_of_ble_eq_true rfl, Nat.le_of_ble_eq_true rfl⟩) hR (rfl : 84 + 3 = 87) (fun z5207 Sx H locs hq hR => ?_)
      obtain ⟨hSx, h⟩ := hq
      rw [hSx] at hR
      refine hp_if_eq E dX7_take_87 (rfl : 87 + 3 = 90) (tgt := 149) (by decide) (fun hb => ?_) (fun hb => ?_)
      · have h := h.1 hb
        refine hp_aload_n E hl 0 rfl 0 rfl dX7_take_149 (rfl : 149 + 1 = 150) ?_
        refine hp_aload_n E hl 0 rfl 0 rfl dX7_take_150 (rfl : 150 + 1 = 151) ?_
        refine hp_getI E hR in_X7 (hp_mono.c hm hc0) rfl 26 (Nat.le_of_ble_eq_true rfl) rfl q1287 (fun _ h => h) dX7_take_151 (rfl : 151 + 3 = 154) ?_
        refine hp_fi (hp_rV E hR hl (m_X7_isDigit G _ _ _ _ (hp_mono.c hm hc0) h) (hp_mono.c hm hc0) (ci := 6) rfl rfl q1460 q1462 qs35 q82 q1463 nf_X7_isDigit ⟨Nat.le_of_ble_eq_true rfl, Nat.le_of_ble_eq_true rfl⟩ (rest := []) rfl (Nat.le_of_ble_eq_true rfl) dX7_take_154 ⟨Nat.le_of_ble_eq_true rfl, Nat.le_of_ble_eq_true rfl⟩) hR (rfl : 154 + 3 = 157) (fun z5208 Sx H locs hq hR => ?_)
        obtain ⟨hSx, h⟩ := hq
        rw [hSx] at hR
        refine hp_if_eq E dX7_take_157 (rfl : 157 + 3 = 160) (tgt := 235) (by decide) (fun hb => ?_) (fun hb => ?_)
        · have h := h.1 hb
          refine hp_aload_n E hl 0 rfl 0 rfl dX7_take_235 (rfl : 235 + 1 = 236) ?_
          refine hp_aload_n E hl 0 rfl 0 rfl dX7_take_236 (rfl : 236 + 1 = 237) ?_
          refine hp_getR E hR in_X7 (hp_mono.c hm hc0) rfl 0 (Nat.le_of_ble_eq_true rfl) rfl q1261 (fun _ h => h) dX7_take_237 (rfl : 237 + 3 = 240) ?_
          refine hp_aload_n E hl 0 rfl 0 rfl dX7_take_240 (rfl : 240 + 1 = 241) ?_
          refine hp_getI E hR in_X7 (hp_mono.c hm hc0) rfl 26 (Nat.le_of_ble_eq_true rfl) rfl q1287 (fun _ h => h) dX7_take_241 (rfl : 241 + 3 = 244) ?_
          obtain ⟨hc5209, h⟩ := h
          obtain ⟨hi5210, h⟩ := h
          refine hp_iald E hR hc5209 hi5210 dX7_take_244 (rfl : 244 + 1 = 245) ?_
          refine hp_bipush E (59 : Int32) (by decide) dX7_take_245 (rfl : 245 + 2 = 247) ?_
          refine hp_icmp_ne E dX7_take_247 (rfl : 247 + 3 = 250) (tgt := 254) (by decide) (fun hb => ?_) (fun hb => ?_)
          · have h := h.1 hb
            refine hp_iconst E (3 : Int32) (by decide) dX7_take_250 (rfl : 250 + 1 = 251) ?_
            refine hp_goto E (tgt := 255) dX7_take_251 (by decide) ?_
            exact b255 _ _ _ _ _ _ h hl hR hm
          · have h := h.2 hb
            refine hp_iconst E (4 : Int32) (by decide) dX7_take_254 (rfl : 254 + 1 = 255) ?_
            exact b255 _ _ _ _ _ _ h hl hR hm
        · have h := h.2 hb
          refine hp_aload_n E hl 0 rfl 0 rfl dX7_take_160 (rfl : 160 + 1 = 161) ?_
          refine hp_iconst E (2 : Int32) (by decide) dX7_take_161 (rfl : 161 + 1 = 162) ?_
          refine hx_putI E hR in_X7 tyX7 tyX7_ok nmX7 (hp_mono.c hm hc0) rfl 27 (Nat.le_of_ble_eq_true rfl) rfl q1288 (fun _ h => h) (Or.inl rfl) (Or.inl rfl) dX7_take_162 (rfl : 162 + 3 = 165) (fun S5211 H locs e5213 hm5212 hR => ?_)
          have h := h S5211 e5213
          have hm := hp_mono.tr hm hm5212
          refine hp_aload_n E hl 0 rfl 0 rfl dX7_take_165 (rfl : 165 + 1 = 166) ?_
          refine hp_iconst E (0 : Int32) (by decide) dX7_take_166 (rfl : 166 + 1 = 167) ?_
          refine hx_putI E hR in_X7 tyX7 tyX7_ok nmX7 (hp_mono.c hm hc0) rfl 28 (Nat.le_of_ble_eq_true rfl) rfl q1289 (fun _ h => h) (Or.inl rfl) (Or.inl rfl) dX7_take_167 (rfl : 167 + 3 = 170) (fun S5214 H locs e5216 hm5215 hR => ?_)
          have h := h S5214 e5216
          have hm := hp_mono.tr hm hm5215
          exact b170 _ _ _ _ h hl hR hm
      · have h := h.2 hb
        exact b90 _ _ _ _ h hl hR hm
  have b0 : ∀ (S : hp_St) (H : Heap) (locs : List Loc) (ls : Array Slot), wl_X7_take_0 o S Q → lv_has ls 1 [(0, hp_v B o)] → hp_S B D s0 S H locs → hp_mono Si S → W p l e ({ frames := 3, cells := 0, slots := 0, locals := 192 } : Room) s m args below meth c H locs 0 0 (MQ below (hp_Qv B D s0 (fun S' => hp_mono Si S' ∧ Q S')) args s 0 0 (fun q => B < q)) (F0 m 0 ls []) := by
    intro S H locs ls h hl hR hm
    obtain ⟨I0, μ0, hI, hst⟩ := h
    obtain ⟨Sa0, eSa0⟩ : ∃ x, x = S := ⟨_, rfl⟩
    subst eSa0
    have key0 : ∀ (N : Nat) (Su0 : hp_St) (H : Heap) (locs : List Loc) (ls : Array Slot), μ0 Su0 < N → I0 Su0 → lv_has ls 1 [(0, hp_v B o)] → hp_S B D s0 Su0 H locs → hp_mono Sa0 Su0 → W p l e ({ frames := 3, cells := 0, slots := 0, locals := 192 } : Room) s m args below meth c H locs 0 0 (MQ below (hp_Qv B D s0 (fun S' => hp_mono Si S' ∧ Q S')) args s 0 0 (fun q => B < q)) (F0 m 0 ls []) := by
      intro N
      induction N with
      | zero =>
        intro Su0 H locs ls hN
        exact absurd hN (Nat.not_lt_zero _)
      | succ N ih0 =>
        intro Su0 H locs ls hN hI hl hR ms0
        have h := hst Su0 ms0 hI
        have hm := hp_mono.tr hm ms0
        obtain ⟨K0, hKe0⟩ : ∃ K : hp_St → Prop, K = (fun Sk => I0 Sk ∧ μ0 Sk < μ0 Su0) := ⟨_, rfl⟩
        rw [← hKe0] at h
        have hK0 : ∀ (Sk : hp_St) (H : Heap) (locs : List Loc) (ls : Array Slot), K0 Sk → lv_has ls 1 [(0, hp_v B o)] → hp_S B D s0 Sk H locs → hp_mono Sa0 Sk → W p l e ({ frames := 3, cells := 0, slots := 0, locals := 192 } : Room) s m args below meth c H locs 0 0 (MQ below (hp_Qv B D s0 (fun S' => hp_mono Si S' ∧ Q S')) args s 0 0 (fun q => B < q)) (F0 m 0 ls []) := by
          intro Sk H locs ls hI hl hR ms
          rw [hKe0] at hI
          exact ih0 Sk H locs ls (Nat.lt_of_lt_of_le hI.2 (Nat.le_of_lt_succ hN)) hI.1 hl hR ms
        have b39 : ∀ (S : hp_St) (H : Heap) (locs : List Loc) (ls : Array Slot), wb_X7_take_39 o S K0 Q → lv_has ls 1 [(0, hp_v B o)] → hp_S B D s0 S H locs → hp_mono Si S → hp_mono Sa0 S → W p l e ({ frames := 3, cells := 0, slots := 0, locals := 192 } : Room) s m args below meth c H locs 0 0 (MQ below (hp_Qv B D s0 (fun S' => hp_mono Si S' ∧ Q S')) args s 0 0 (fun q => B < q)) (F0 m 39 ls []) := by
          intro S H locs ls h hl hR hm ms0
          unfold wb_X7_take_39 at h
          refine hp_aload_n E hl 0 rfl 0 rfl dX7_take_39 (rfl : 39 + 1 = 40) ?_
          refine hp_dup E hp_vc dX7_take_40 (rfl : 40 + 1 = 41) ?_
          refine hp_getI E hR in_X7 (hp_mono.c hm hc0) rfl 26 (Nat.le_of_ble_eq_true rfl) rfl q1287 (fun _ h => h) dX7_take_41 (rfl : 41 + 3 = 44) ?_
          refine hp_iconst E (1 : Int32) (by decide) dX7_take_44 (rfl : 44 + 1 = 45) ?_
          refine hp_iadd E dX7_take_45 (rfl : 45 + 1 = 46) ?_
          refine hx_putI E hR in_X7 tyX7 tyX7_ok nmX7 (hp_mono.c hm hc0) rfl 26 (Nat.le_of_ble_eq_true rfl) rfl q1287 (fun _ h => h) (Or.inl rfl) (Or.inl rfl) dX7_take_46 (rfl : 46 + 3 = 49) (fun S3901 H locs e3903 hm3902 hR => ?_)
          have h := h S3901 e3903
          have hm := hp_mono.tr hm hm3902
          have ms0 := hp_mono.tr ms0 hm3902
          refine hp_goto E (tgt := 0) dX7_take_49 (by decide) ?_
          exact hK0 _ _ _ _ h hl hR ms0
        unfold wb_X7_take_0 at h
        refine hp_aload_n E hl 0 rfl 0 rfl dX7_take_0 (rfl : 0 + 1 = 1) ?_
        refine hp_getI E hR in_X7 (hp_mono.c hm hc0) rfl 26 (Nat.le_of_ble_eq_true rfl) rfl q1287 (fun _ h => h) dX7_take_1 (rfl : 1 + 3 = 4) ?_
        refine hp_aload_n E hl 0 rfl 0 rfl dX7_take_4 (rfl : 4 + 1 = 5) ?_
        refine hp_getI E hR in_X7 (hp_mono.c hm hc0) rfl 25 (Nat.le_of_ble_eq_true rfl) rfl q1286 (fun _ h => h) dX7_take_5 (rfl : 5 + 3 = 8) ?_
        refine hp_icmp_ge E dX7_take_8 (rfl : 8 + 3 = 11) (tgt := 52) (by decide) (fun hb => ?_) (fun hb => ?_)
        · have h := h.1 hb
          refine hp_aload_n E hl 0 rfl 0 rfl dX7_take_11 (rfl : 11 + 1 = 12) ?_
          refine hp_getR E hR in_X7 (hp_mono.c hm hc0) rfl 0 (Nat.le_of_ble_eq_true rfl) rfl q1261 (fun _ h => h) dX7_take_12 (rfl : 12 + 3 = 15) ?_
          refine hp_aload_n E hl 0 rfl 0 rfl dX7_take_15 (rfl : 15 + 1 = 16) ?_
          refine hp_getI E hR in_X7 (hp_mono.c hm hc0) rfl 26 (Nat.le_of_ble_eq_true rfl) rfl q1287 (fun _ h => h) dX7_take_16 (rfl : 16 + 3 = 19) ?_
          obtain ⟨hc1, h⟩ := h
          obtain ⟨hi2, h⟩ := h
          refine hp_iald E hR hc1 hi2 dX7_take_19 (rfl : 19 + 1 = 20) ?_
          refine hp_bipush E (10 : Int32) (by decide) dX7_take_20 (rfl : 20 + 2 = 22) ?_
          refine hp_icmp_eq E dX7_take_22 (rfl : 22 + 3 = 25) (tgt := 39) (by decide) (fun hb => ?_) (fun hb => ?_)
          · have h := h.1 hb
            exact b39 _ _ _ _ h hl hR hm ms0
          · have h := h.2 hb
            refine hp_aload_n E hl 0 rfl 0 rfl dX7_take_25 (rfl : 25 + 1 = 26) ?_
            refine hp_getR E hR in_X7 (hp_mono.c hm hc0) rfl 0 (Nat.le_of_ble_eq_true rfl) rfl q1261 (fun _ h => h) dX7_take_26 (rfl : 26 + 3 = 29) ?_
            refine hp_aload_n E hl 0 rfl 0 rfl dX7_take_29 (rfl : 29 + 1 = 30) ?_
            refine hp_getI E hR in_X7 (hp_mono.c hm hc0) rfl 26 (Nat.le_of_ble_eq_true rfl) rfl q1287 (fun _ h => h) dX7_take_30 (rfl : 30 + 3 = 33) ?_
            obtain ⟨hi3, h⟩ := h
            refine hp_iald E hR hc1 hi3 dX7_take_33 (rfl : 33 + 1 = 34) ?_
            refine hp_bipush E (32 : Int32) (by decide) dX7_take_34 (rfl : 34 + 2 = 36) ?_
            refine hp_icmp_ne E dX7_take_36 (rfl : 36 + 3 = 39) (tgt := 52) (by decide) (fun hb => ?_) (fun hb => ?_)
            · have h := h.1 hb
              exact b39 _ _ _ _ h hl hR hm ms0
            · have h := h.2 hb
              exact b52 _ _ _ _ h hl hR hm
        · have h := h.2 hb
          exact b52 _ _ _ _ h hl hR hm
    exact key0 (μ0 Sa0 + 1) _ H locs ls (Nat.lt_succ_self _) hI hl hR hp_mono.rf
  unfold wp_X7_take at h
  exact b0 _ _ _ _ h hl hR hm
def wp_X7_wrong (o : Nat) (a1 : Int32) (S : hp_St) (Q : Int32 → hp_St → Prop) : Prop := (∀ S1, S1 = st_pI S o 23 a1 → (∀ S4, S4 = st_pI S1 o 24 (st_I S1 o 29) → Q (0 : Int32) S4))
theorem nf_X7_wrong : hp_nf yX7_wrong 1 = true := by decide +kernel
set_option maxHeartbeats 4000000 in
theorem m_X7_wrong {l : Launch} {B : Nat} {D : va_G} {s0 : State} {b0 : Nat} (G : hp_G l B D s0 b0) (o : Nat) (a1 : Int32) (Si : hp_St) (Q : Int32 → hp_St → Prop) (hc0 : st_C Si o = 7) (h : wp_X7_wrong o a1 Si Q) : hp_M l B D s0 yX7_wrong cX7_wrong 2 (some .boolean) 2 128 0 0 [hp_v B o, .int a1] Si (hp_Qi B D s0 (fun r S' => hp_mono Si S' ∧ Q r S')) := by
  refine hp_start G (by decide +kernel) rfl rfl (lv := [(0, hp_v B o), (1, .int a1)]) (by simp [lg_sl, hp_vc, hp_ci, hp_cj]) (by simp [lv_args, hp_vc, hp_ci, hp_cj]) ?_
  intro p e s m args below meth c E ls hl hR
  have hm : hp_mono Si Si := hp_mono.rf
  unfold wp_X7_wrong at h
  refine hp_aload_n E hl 0 rfl 0 rfl dX7_wrong_0 (rfl : 0 + 1 = 1) ?_
  refine hp_iload_n E hl 1 rfl 1 rfl dX7_wrong_1 (rfl : 1 + 1 = 2) ?_
  refine hx_putI E hR in_X7 tyX7 tyX7_ok nmX7 hc0 rfl 23 (Nat.le_of_ble_eq_true rfl) rfl q1284 (fun _ h => h) (Or.inl rfl) (Or.inl rfl) dX7_wrong_2 (rfl : 2 + 3 = 5) (fun S1 H locs e3 hm2 hR => ?_)
  have h := h S1 e3
  have hm := hp_mono.tr hm hm2
  refine hp_aload_n E hl 0 rfl 0 rfl dX7_wrong_5 (rfl : 5 + 1 = 6) ?_
  refine hp_aload_n E hl 0 rfl 0 rfl dX7_wrong_6 (rfl : 6 + 1 = 7) ?_
  refine hp_getI E hR in_X7 (hp_mono.c hm hc0) rfl 29 (Nat.le_of_ble_eq_true rfl) rfl q1290 (fun _ h => h) dX7_wrong_7 (rfl : 7 + 3 = 10) ?_
  refine hx_putI E hR in_X7 tyX7 tyX7_ok nmX7 (hp_mono.c hm hc0) rfl 24 (Nat.le_of_ble_eq_true rfl) rfl q1285 (fun _ h => h) (Or.inl rfl) (Or.inl rfl) dX7_wrong_10 (rfl : 10 + 3 = 13) (fun S4 H locs e6 hm5 hR => ?_)
  have h := h S4 e6
  have hm := hp_mono.tr hm hm5
  refine hp_iconst E (0 : Int32) (by decide) dX7_wrong_13 (rfl : 13 + 1 = 14) ?_
  exact hp_zret E hR (Or.inl rfl) ⟨hm, h⟩ (Nat.le_of_ble_eq_true rfl) (Nat.le_of_ble_eq_true rfl) dX7_wrong_14
def wb_X7_isNumber_43 (o : Nat) (a1 : Int32) (a2 : Int32) (t0 : Int32) (S : hp_St) (Q : Int32 → hp_St → Prop) : Prop := (t0 = 0 ∨ t0 = 1) ∧ Q t0 S
def wb_X7_isNumber_38 (o : Nat) (a1 : Int32) (a2 : Int32) (S : hp_St) (Q : Int32 → hp_St → Prop) : Prop := wb_X7_isNumber_43 o a1 a2 (1 : Int32) S Q
def wb_X7_isNumber_30 (o : Nat) (a1 : Int32) (a2 : Int32) (S : hp_St) (Q : Int32 → hp_St → Prop) : Prop := wp_X7_wrong o (2 : Int32) S (fun z3001 S3002 => hp_mono S S3002 → (((z3001 = 0) → wb_X7_isNumber_43 o a1 a2 (0 : Int32) S3002 Q) ∧ ((¬ (z3001 = 0)) → wb_X7_isNumber_38 o a1 a2 S3002 Q)))
def wp_X7_isNumber (o : Nat) (a1 : Int32) (a2 : Int32) (S : hp_St) (Q : Int32 → hp_St → Prop) : Prop := ((((st_I S o 27) = (2 : Int32)) → ((((st_I S o 28) < a1) → wb_X7_isNumber_30 o a1 a2 S Q) ∧ ((¬ ((st_I S o 28) < a1)) → ((((st_I S o 28) ≤ a2) → wb_X7_isNumber_38 o a1 a2 S Q) ∧ ((¬ ((st_I S o 28) ≤ a2)) → wb_X7_isNumber_30 o a1 a2 S Q))))) ∧ ((¬ ((st_I S o 27) = (2 : Int32))) → wp_X7_wrong o (1 : Int32) S (fun z1 S2 => hp_mono S S2 → (z1 = 0 ∨ z1 = 1) ∧ Q z1 S2)))
theorem nf_X7_isNumber : hp_nf yX7_isNumber 2 = true := by decide +kernel
set_option maxHeartbeats 4000000 in
theorem m_X7_isNumber {l : Launch} {B : Nat} {D : va_G} {s0 : State} {b0 : Nat} (G : hp_G l B D s0 b0) (o : Nat) (a1 : Int32) (a2 : Int32) (Si : hp_St) (Q : Int32 → hp_St → Prop) (hc0 : st_C Si o = 7) (h : wp_X7_isNumber o a1 a2 Si Q) : hp_M l B D s0 yX7_isNumber cX7_isNumber 3 (some .boolean) 3 192 0 0 [hp_v B o, .int a1, .int a2] Si (hp_Qi B D s0 (fun r S' => hp_mono Si S' ∧ Q r S')) := by
  refine hp_start G (by decide +kernel) rfl rfl (lv := [(0, hp_v B o), (1, .int a1), (2, .int a2)]) (by simp [lg_sl, hp_vc, hp_ci, hp_cj]) (by simp [lv_args, hp_vc, hp_ci, hp_cj]) ?_
  intro p e s m args below meth c E ls hl hR
  have hm : hp_mono Si Si := hp_mono.rf
  generalize hH : s.heap = H at hR ⊢
  generalize hLo : ([] : List Loc) = locs at hR ⊢
  have b43 : ∀ (t0 : Int32) (S : hp_St) (H : Heap) (locs : List Loc) (ls : Array Slot), wb_X7_isNumber_43 o a1 a2 t0 S Q → lv_has ls 3 [] → hp_S B D s0 S H locs → hp_mono Si S → W p l e ({ frames := 3, cells := 0, slots := 0, locals := 192 } : Room) s m args below meth c H locs 0 0 (MQ below (hp_Qi B D s0 (fun r S' => hp_mono Si S' ∧ Q r S')) args s 0 0 (fun q => B < q)) (F0 m 43 ls [.int t0]) := by
    intro t0 S H locs ls h hl hR hm
    unfold wb_X7_isNumber_43 at h
    obtain ⟨hz4301, h⟩ := h
    exact hp_zret E hR hz4301 ⟨hm, h⟩ (Nat.le_of_ble_eq_true rfl) (Nat.le_of_ble_eq_true rfl) dX7_isNumber_43
  have b38 : ∀ (S : hp_St) (H : Heap) (locs : List Loc) (ls : Array Slot), wb_X7_isNumber_38 o a1 a2 S Q → lv_has ls 3 [] → hp_S B D s0 S H locs → hp_mono Si S → W p l e ({ frames := 3, cells := 0, slots := 0, locals := 192 } : Room) s m args below meth c H locs 0 0 (MQ below (hp_Qi B D s0 (fun r S' => hp_mono Si S' ∧ Q r S')) args s 0 0 (fun q => B < q)) (F0 m 38 ls []) := by
    intro S H locs ls h hl hR hm
    unfold wb_X7_isNumber_38 at h
    refine hp_iconst E (1 : Int32) (by decide) dX7_isNumber_38 (rfl : 38 + 1 = 39) ?_
    refine hp_goto E (tgt := 43) dX7_isNumber_39 (by decide) ?_
    exact b43 _ _ _ _ _ h hl hR hm
  have b30 : ∀ (S : hp_St) (H : Heap) (locs : List Loc) (ls : Array Slot), wb_X7_isNumber_30 o a1 a2 S Q → lv_has ls 3 [(0, hp_v B o)] → hp_S B D s0 S H locs → hp_mono Si S → W p l e ({ frames := 3, cells := 0, slots := 0, locals := 192 } : Room) s m args below meth c H locs 0 0 (MQ below (hp_Qi B D s0 (fun r S' => hp_mono Si S' ∧ Q r S')) args s 0 0 (fun q => B < q)) (F0 m 30 ls []) := by
    intro S H locs ls h hl hR hm
    unfold wb_X7_isNumber_30 at h
    refine hp_aload_n E hl 0 rfl 0 rfl dX7_isNumber_30 (rfl : 30 + 1 = 31) ?_
    refine hp_iconst E (2 : Int32) (by decide) dX7_isNumber_31 (rfl : 31 + 1 = 32) ?_
    refine hp_fi (hp_rV E hR hl (m_X7_wrong G _ _ _ _ (hp_mono.c hm hc0) h) (hp_mono.c hm hc0) (ci := 6) rfl rfl q1464 q1466 qs36 q82 q1467 nf_X7_wrong ⟨Nat.le_of_ble_eq_true rfl, Nat.le_of_ble_eq_true rfl⟩ (rest := []) rfl (Nat.le_of_ble_eq_true rfl) dX7_isNumber_32 ⟨Nat.le_of_ble_eq_true rfl, Nat.le_of_ble_eq_true rfl⟩) hR (rfl : 32 + 3 = 35) (fun z3001 S3002 H locs hq hR => ?_)
    obtain ⟨hm3003, h⟩ := hq
    have h := h hm3003
    have hm := hp_mono.tr hm hm3003
    refine hp_if_eq E dX7_isNumber_35 (rfl : 35 + 3 = 38) (tgt := 42) (by decide) (fun hb => ?_) (fun hb => ?_)
    · have h := h.1 hb
      refine hp_iconst E (0 : Int32) (by decide) dX7_isNumber_42 (rfl : 42 + 1 = 43) ?_
      exact b43 _ _ _ _ _ h (lv_sub hl [] rfl) hR hm
    · have h := h.2 hb
      exact b38 _ _ _ _ h (lv_sub hl [] rfl) hR hm
  unfold wp_X7_isNumber at h
  refine hp_aload_n E hl 0 rfl 0 rfl dX7_isNumber_0 (rfl : 0 + 1 = 1) ?_
  refine hp_getI E hR in_X7 hc0 rfl 27 (Nat.le_of_ble_eq_true rfl) rfl q1288 (fun _ h => h) dX7_isNumber_1 (rfl : 1 + 3 = 4) ?_
  refine hp_iconst E (2 : Int32) (by decide) dX7_isNumber_4 (rfl : 4 + 1 = 5) ?_
  refine hp_icmp_eq E dX7_isNumber_5 (rfl : 5 + 3 = 8) (tgt := 14) (by decide) (fun hb => ?_) (fun hb => ?_)
  · have h := h.1 hb
    refine hp_aload_n E hl 0 rfl 0 rfl dX7_isNumber_14 (rfl : 14 + 1 = 15) ?_
    refine hp_getI E hR in_X7 hc0 rfl 28 (Nat.le_of_ble_eq_true rfl) rfl q1289 (fun _ h => h) dX7_isNumber_15 (rfl : 15 + 3 = 18) ?_
    refine hp_iload_n E hl 1 rfl 1 rfl dX7_isNumber_18 (rfl : 18 + 1 = 19) ?_
    refine hp_icmp_lt E dX7_isNumber_19 (rfl : 19 + 3 = 22) (tgt := 30) (by decide) (fun hb => ?_) (fun hb => ?_)
    · have h := h.1 hb
      exact b30 _ _ _ _ h (lv_sub hl [0] rfl) hR hm
    · have h := h.2 hb
      refine hp_aload_n E hl 0 rfl 0 rfl dX7_isNumber_22 (rfl : 22 + 1 = 23) ?_
      refine hp_getI E hR in_X7 hc0 rfl 28 (Nat.le_of_ble_eq_true rfl) rfl q1289 (fun _ h => h) dX7_isNumber_23 (rfl : 23 + 3 = 26) ?_
      refine hp_iload_n E hl 2 rfl 2 rfl dX7_isNumber_26 (rfl : 26 + 1 = 27) ?_
      refine hp_icmp_le E dX7_isNumber_27 (rfl : 27 + 3 = 30) (tgt := 38) (by decide) (fun hb => ?_) (fun hb => ?_)
      · have h := h.1 hb
        exact b38 _ _ _ _ h (lv_sub hl [] rfl) hR hm
      · have h := h.2 hb
        exact b30 _ _ _ _ h (lv_sub hl [0] rfl) hR hm
  · have h := h.2 hb
    refine hp_aload_n E hl 0 rfl 0 rfl dX7_isNumber_8 (rfl : 8 + 1 = 9) ?_
    refine hp_iconst E (1 : Int32) (by decide) dX7_isNumber_9 (rfl : 9 + 1 = 10) ?_
    refine hp_fi (hp_rV E hR hl (m_X7_wrong G _ _ _ _ hc0 h) hc0 (ci := 6) rfl rfl q1464 q1466 qs36 q82 q1467 nf_X7_wrong ⟨Nat.le_of_ble_eq_true rfl, Nat.le_of_ble_eq_true rfl⟩ (rest := []) rfl (Nat.le_of_ble_eq_true rfl) dX7_isNumber_10 ⟨Nat.le_of_ble_eq_true rfl, Nat.le_of_ble_eq_true rfl⟩) hR (rfl : 10 + 3 = 13) (fun z1 S2 H locs hq hR => ?_)
    obtain ⟨hm3, h⟩ := hq
    have h := h hm3
    have hm := hp_mono.tr hm hm3
    obtain ⟨hz4, h⟩ := h
    exact hp_zret E hR hz4 ⟨hm, h⟩ (Nat.le_of_ble_eq_true rfl) (Nat.le_of_ble_eq_true rfl) dX7_isNumber_13
def wb_X7_isWord_21 (o : Nat) (a1 : Int32) (t0 : Int32) (S : hp_St) (Q : Int32 → Prop) : Prop := (t0 = 0 ∨ t0 = 1) ∧ Q t0
def wb_X7_isWord_20 (o : Nat) (a1 : Int32) (S : hp_St) (Q : Int32 → Prop) : Prop := wb_X7_isWord_21 o a1 (0 : Int32) S Q
def wp_X7_isWord (o : Nat) (a1 : Int32) (S : hp_St) (Q : Int32 → Prop) : Prop := ((((st_I S o 27) = (1 : Int32)) → ((((st_I S o 28) = a1) → wb_X7_isWord_21 o a1 (1 : Int32) S Q) ∧ ((¬ ((st_I S o 28) = a1)) → wb_X7_isWord_20 o a1 S Q))) ∧ ((¬ ((st_I S o 27) = (1 : Int32))) → wb_X7_isWord_20 o a1 S Q))
theorem nf_X7_isWord : hp_nf yX7_isWord 1 = true := by decide +kernel
set_option maxHeartbeats 4000000 in
theorem m_X7_isWord {l : Launch} {B : Nat} {D : va_G} {s0 : State} {b0 : Nat} (G : hp_G l B D s0 b0) (o : Nat) (a1 : Int32) (Si : hp_St) (Q : Int32 → Prop) (hc0 : st_C Si o = 7) (h : wp_X7_isWord o a1 Si Q) : hp_M l B D s0 yX7_isWord cX7_isWord 2 (some .boolean) 2 128 0 0 [hp_v B o, .int a1] Si (hp_Qi B D s0 (fun r S' => S' = Si ∧ Q r)) := by
  refine hp_start G (by decide +kernel) rfl rfl (lv := [(0, hp_v B o), (1, .int a1)]) (by simp [lg_sl, hp_vc, hp_ci, hp_cj]) (by simp [lv_args, hp_vc, hp_ci, hp_cj]) ?_
  intro p e s m args below meth c E ls hl hR
  generalize hH : s.heap = H at hR ⊢
  generalize hLo : ([] : List Loc) = locs at hR ⊢
  have b21 : ∀ (t0 : Int32) (H : Heap) (locs : List Loc) (ls : Array Slot), wb_X7_isWord_21 o a1 t0 Si Q → lv_has ls 2 [] → hp_S B D s0 Si H locs → W p l e ({ frames := 2, cells := 0, slots := 0, locals := 128 } : Room) s m args below meth c H locs 0 0 (MQ below (hp_Qi B D s0 (fun r S' => S' = Si ∧ Q r)) args s 0 0 (fun q => B < q)) (F0 m 21 ls [.int t0]) := by
    intro t0 H locs ls h hl hR
    unfold wb_X7_isWord_21 at h
    obtain ⟨hz2101, h⟩ := h
    exact hp_zret E hR hz2101 ⟨rfl, h⟩ (Nat.le_of_ble_eq_true rfl) (Nat.le_of_ble_eq_true rfl) dX7_isWord_21
  have b20 : ∀ (H : Heap) (locs : List Loc) (ls : Array Slot), wb_X7_isWord_20 o a1 Si Q → lv_has ls 2 [] → hp_S B D s0 Si H locs → W p l e ({ frames := 2, cells := 0, slots := 0, locals := 128 } : Room) s m args below meth c H locs 0 0 (MQ below (hp_Qi B D s0 (fun r S' => S' = Si ∧ Q r)) args s 0 0 (fun q => B < q)) (F0 m 20 ls []) := by
    intro  H locs ls h hl hR
    unfold wb_X7_isWord_20 at h
    refine hp_iconst E (0 : Int32) (by decide) dX7_isWord_20 (rfl : 20 + 1 = 21) ?_
    exact b21 _ _ _ _ h hl hR
  unfold wp_X7_isWord at h
  refine hp_aload_n E hl 0 rfl 0 rfl dX7_isWord_0 (rfl : 0 + 1 = 1) ?_
  refine hp_getI E hR in_X7 hc0 rfl 27 (Nat.le_of_ble_eq_true rfl) rfl q1288 (fun _ h => h) dX7_isWord_1 (rfl : 1 + 3 = 4) ?_
  refine hp_iconst E (1 : Int32) (by decide) dX7_isWord_4 (rfl : 4 + 1 = 5) ?_
  refine hp_icmp_ne E dX7_isWord_5 (rfl : 5 + 3 = 8) (tgt := 20) (by decide) (fun hb => ?_) (fun hb => ?_)
  · have h := h.1 hb
    refine hp_aload_n E hl 0 rfl 0 rfl dX7_isWord_8 (rfl : 8 + 1 = 9) ?_
    refine hp_getI E hR in_X7 hc0 rfl 28 (Nat.le_of_ble_eq_true rfl) rfl q1289 (fun _ h => h) dX7_isWord_9 (rfl : 9 + 3 = 12) ?_
    refine hp_iload_n E hl 1 rfl 1 rfl dX7_isWord_12 (rfl : 12 + 1 = 13) ?_
    refine hp_icmp_ne E dX7_isWord_13 (rfl : 13 + 3 = 16) (tgt := 20) (by decide) (fun hb => ?_) (fun hb => ?_)
    · have h := h.1 hb
      refine hp_iconst E (1 : Int32) (by decide) dX7_isWord_16 (rfl : 16 + 1 = 17) ?_
      refine hp_goto E (tgt := 21) dX7_isWord_17 (by decide) ?_
      exact b21 _ _ _ _ h (lv_sub hl [] rfl) hR
    · have h := h.2 hb
      exact b20 _ _ _ h (lv_sub hl [] rfl) hR
  · have h := h.2 hb
    exact b20 _ _ _ h (lv_sub hl [] rfl) hR
def wp_X7_span (o : Nat) (a1 : Int32) (S : hp_St) (Q : Int32 → hp_St → Prop) : Prop := wp_X7_isNumber o (0 : Int32) a1 S (fun z1 S2 => hp_mono S S2 → (((z1 = 0) → Q (0 : Int32) S2) ∧ ((¬ (z1 = 0)) → (∀ S4, S4 = st_pI S2 o 42 (st_I S2 o 28) → wp_X7_take o S4 (fun S7 => hp_mono S4 S7 → wp_X7_isWord o (13 : Int32) S7 (fun z9 => (((z9 = 0) → wp_X7_wrong o (1 : Int32) S7 (fun z10 S11 => hp_mono S7 S11 → (z10 = 0 ∨ z10 = 1) ∧ Q z10 S11)) ∧ ((¬ (z9 = 0)) → wp_X7_take o S7 (fun S14 => hp_mono S7 S14 → wp_X7_isNumber o (st_I S14 o 42) a1 S14 (fun z16 S17 => hp_mono S14 S17 → (((z16 = 0) → Q (0 : Int32) S17) ∧ ((¬ (z16 = 0)) → (∀ S19, S19 = st_pI S17 o 43 (st_I S17 o 28) → wp_X7_take o S19 (fun S22 => hp_mono S19 S22 → Q (1 : Int32) S22))))))))))))))
theorem nf_X7_span : hp_nf yX7_span 1 = true := by decide +kernel
set_option maxHeartbeats 4000000 in
theorem m_X7_span {l : Launch} {B : Nat} {D : va_G} {s0 : State} {b0 : Nat} (G : hp_G l B D s0 b0) (o : Nat) (a1 : Int32) (Si : hp_St) (Q : Int32 → hp_St → Prop) (hc0 : st_C Si o = 7) (h : wp_X7_span o a1 Si Q) : hp_M l B D s0 yX7_span cX7_span 2 (some .boolean) 4 256 0 0 [hp_v B o, .int a1] Si (hp_Qi B D s0 (fun r S' => hp_mono Si S' ∧ Q r S')) := by
  refine hp_start G (by decide +kernel) rfl rfl (lv := [(0, hp_v B o), (1, .int a1)]) (by simp [lg_sl, hp_vc, hp_ci, hp_cj]) (by simp [lv_args, hp_vc, hp_ci, hp_cj]) ?_
  intro p e s m args below meth c E ls hl hR
  have hm : hp_mono Si Si := hp_mono.rf
  unfold wp_X7_span at h
  refine hp_aload_n E hl 0 rfl 0 rfl dX7_span_0 (rfl : 0 + 1 = 1) ?_
  refine hp_iconst E (0 : Int32) (by decide) dX7_span_1 (rfl : 1 + 1 = 2) ?_
  refine hp_iload_n E hl 1 rfl 1 rfl dX7_span_2 (rfl : 2 + 1 = 3) ?_
  refine hp_fi (hp_rV E hR hl (m_X7_isNumber G _ _ _ _ _ hc0 h) hc0 (ci := 6) rfl rfl q1472 q1474 qs38 q82 q1475 nf_X7_isNumber ⟨Nat.le_of_ble_eq_true rfl, Nat.le_of_ble_eq_true rfl⟩ (rest := []) rfl (Nat.le_of_ble_eq_true rfl) dX7_span_3 ⟨Nat.le_of_ble_eq_true rfl, Nat.le_of_ble_eq_true rfl⟩) hR (rfl : 3 + 3 = 6) (fun z1 S2 H locs hq hR => ?_)
  obtain ⟨hm3, h⟩ := hq
  have h := h hm3
  have hm := hp_mono.tr hm hm3
  refine hp_if_ne E dX7_span_6 (rfl : 6 + 3 = 9) (tgt := 11) (by decide) (fun hb => ?_) (fun hb => ?_)
  · have h := h.1 hb
    refine hp_iconst E (0 : Int32) (by decide) dX7_span_9 (rfl : 9 + 1 = 10) ?_
    exact hp_zret E hR (Or.inl rfl) ⟨hm, h⟩ (Nat.le_of_ble_eq_true rfl) (Nat.le_of_ble_eq_true rfl) dX7_span_10
  · have h := h.2 hb
    refine hp_aload_n E hl 0 rfl 0 rfl dX7_span_11 (rfl : 11 + 1 = 12) ?_
    refine hp_aload_n E hl 0 rfl 0 rfl dX7_span_12 (rfl : 12 + 1 = 13) ?_
    refine hp_getI E hR in_X7 (hp_mono.c hm hc0) rfl 28 (Nat.le_of_ble_eq_true rfl) rfl q1289 (fun _ h => h) dX7_span_13 (rfl : 13 + 3 = 16) ?_
    refine hx_putI E hR in_X7 tyX7 tyX7_ok nmX7 (hp_mono.c hm hc0) rfl 42 (Nat.le_of_ble_eq_true rfl) rfl q1303 (fun _ h => h) (Or.inl rfl) (Or.inl rfl) dX7_span_16 (rfl : 16 + 3 = 19) (fun S4 H locs e6 hm5 hR => ?_)
    have h := h S4 e6
    have hm := hp_mono.tr hm hm5
    refine hp_aload_n E hl 0 rfl 0 rfl dX7_span_19 (rfl : 19 + 1 = 20) ?_
    refine hp_fv (hp_rV E hR hl (m_X7_take G _ _ _ (hp_mono.c hm hc0) h) (hp_mono.c hm hc0) (ci := 6) rfl rfl q1448 q1450 qs32 q82 q1451 nf_X7_take ⟨Nat.le_of_ble_eq_true rfl, Nat.le_of_ble_eq_true rfl⟩ (rest := []) rfl (Nat.le_of_ble_eq_true rfl) dX7_span_20 ⟨Nat.le_of_ble_eq_true rfl, Nat.le_of_ble_eq_true rfl⟩) hR (rfl : 20 + 3 = 23) (fun S7 H locs hq hR => ?_)
    obtain ⟨hm8, h⟩ := hq
    have h := h hm8
    have hm := hp_mono.tr hm hm8
    refine hp_aload_n E hl 0 rfl 0 rfl dX7_span_23 (rfl : 23 + 1 = 24) ?_
    refine hp_bipush E (13 : Int32) (by decide) dX7_span_24 (rfl : 24 + 2 = 26) ?_
    refine hp_fi (hp_rV E hR hl (m_X7_isWord G _ _ _ _ (hp_mono.c hm hc0) h) (hp_mono.c hm hc0) (ci := 6) rfl rfl q1484 q1486 qs41 q82 q1487 nf_X7_isWord ⟨Nat.le_of_ble_eq_true rfl, Nat.le_of_ble_eq_true rfl⟩ (rest := []) rfl (Nat.le_of_ble_eq_true rfl) dX7_span_26 ⟨Nat.le_of_ble_eq_true rfl, Nat.le_of_ble_eq_true rfl⟩) hR (rfl : 26 + 3 = 29) (fun z9 Sx H locs hq hR => ?_)
    obtain ⟨hSx, h⟩ := hq
    rw [hSx] at hR
    refine hp_if_ne E dX7_span_29 (rfl : 29 + 3 = 32) (tgt := 38) (by decide) (fun hb => ?_) (fun hb => ?_)
    · have h := h.1 hb
      refine hp_aload_n E hl 0 rfl 0 rfl dX7_span_32 (rfl : 32 + 1 = 33) ?_
      refine hp_iconst E (1 : Int32) (by decide) dX7_span_33 (rfl : 33 + 1 = 34) ?_
      refine hp_fi (hp_rV E hR hl (m_X7_wrong G _ _ _ _ (hp_mono.c hm hc0) h) (hp_mono.c hm hc0) (ci := 6) rfl rfl q1464 q1466 qs36 q82 q1467 nf_X7_wrong ⟨Nat.le_of_ble_eq_true rfl, Nat.le_of_ble_eq_true rfl⟩ (rest := []) rfl (Nat.le_of_ble_eq_true rfl) dX7_span_34 ⟨Nat.le_of_ble_eq_true rfl, Nat.le_of_ble_eq_true rfl⟩) hR (rfl : 34 + 3 = 37) (fun z10 S11 H locs hq hR => ?_)
      obtain ⟨hm12, h⟩ := hq
      have h := h hm12
      have hm := hp_mono.tr hm hm12
      obtain ⟨hz13, h⟩ := h
      exact hp_zret E hR hz13 ⟨hm, h⟩ (Nat.le_of_ble_eq_true rfl) (Nat.le_of_ble_eq_true rfl) dX7_span_37
    · have h := h.2 hb
      refine hp_aload_n E hl 0 rfl 0 rfl dX7_span_38 (rfl : 38 + 1 = 39) ?_
      refine hp_fv (hp_rV E hR hl (m_X7_take G _ _ _ (hp_mono.c hm hc0) h) (hp_mono.c hm hc0) (ci := 6) rfl rfl q1448 q1450 qs32 q82 q1451 nf_X7_take ⟨Nat.le_of_ble_eq_true rfl, Nat.le_of_ble_eq_true rfl⟩ (rest := []) rfl (Nat.le_of_ble_eq_true rfl) dX7_span_39 ⟨Nat.le_of_ble_eq_true rfl, Nat.le_of_ble_eq_true rfl⟩) hR (rfl : 39 + 3 = 42) (fun S14 H locs hq hR => ?_)
      obtain ⟨hm15, h⟩ := hq
      have h := h hm15
      have hm := hp_mono.tr hm hm15
      refine hp_aload_n E hl 0 rfl 0 rfl dX7_span_42 (rfl : 42 + 1 = 43) ?_
      refine hp_aload_n E hl 0 rfl 0 rfl dX7_span_43 (rfl : 43 + 1 = 44) ?_
      refine hp_getI E hR in_X7 (hp_mono.c hm hc0) rfl 42 (Nat.le_of_ble_eq_true rfl) rfl q1303 (fun _ h => h) dX7_span_44 (rfl : 44 + 3 = 47) ?_
      refine hp_iload_n E hl 1 rfl 1 rfl dX7_span_47 (rfl : 47 + 1 = 48) ?_
      refine hp_fi (hp_rV E hR hl (m_X7_isNumber G _ _ _ _ _ (hp_mono.c hm hc0) h) (hp_mono.c hm hc0) (ci := 6) rfl rfl q1472 q1474 qs38 q82 q1475 nf_X7_isNumber ⟨Nat.le_of_ble_eq_true rfl, Nat.le_of_ble_eq_true rfl⟩ (rest := []) rfl (Nat.le_of_ble_eq_true rfl) dX7_span_48 ⟨Nat.le_of_ble_eq_true rfl, Nat.le_of_ble_eq_true rfl⟩) hR (rfl : 48 + 3 = 51) (fun z16 S17 H locs hq hR => ?_)
      obtain ⟨hm18, h⟩ := hq
      have h := h hm18
      have hm := hp_mono.tr hm hm18
      refine hp_if_ne E dX7_span_51 (rfl : 51 + 3 = 54) (tgt := 56) (by decide) (fun hb => ?_) (fun hb => ?_)
      · have h := h.1 hb
        refine hp_iconst E (0 : Int32) (by decide) dX7_span_54 (rfl : 54 + 1 = 55) ?_
        exact hp_zret E hR (Or.inl rfl) ⟨hm, h⟩ (Nat.le_of_ble_eq_true rfl) (Nat.le_of_ble_eq_true rfl) dX7_span_55
      · have h := h.2 hb
        refine hp_aload_n E hl 0 rfl 0 rfl dX7_span_56 (rfl : 56 + 1 = 57) ?_
        refine hp_aload_n E hl 0 rfl 0 rfl dX7_span_57 (rfl : 57 + 1 = 58) ?_
        refine hp_getI E hR in_X7 (hp_mono.c hm hc0) rfl 28 (Nat.le_of_ble_eq_true rfl) rfl q1289 (fun _ h => h) dX7_span_58 (rfl : 58 + 3 = 61) ?_
        refine hx_putI E hR in_X7 tyX7 tyX7_ok nmX7 (hp_mono.c hm hc0) rfl 43 (Nat.le_of_ble_eq_true rfl) rfl q1304 (fun _ h => h) (Or.inl rfl) (Or.inl rfl) dX7_span_61 (rfl : 61 + 3 = 64) (fun S19 H locs e21 hm20 hR => ?_)
        have h := h S19 e21
        have hm := hp_mono.tr hm hm20
        refine hp_aload_n E hl 0 rfl 0 rfl dX7_span_64 (rfl : 64 + 1 = 65) ?_
        refine hp_fv (hp_rV E hR hl (m_X7_take G _ _ _ (hp_mono.c hm hc0) h) (hp_mono.c hm hc0) (ci := 6) rfl rfl q1448 q1450 qs32 q82 q1451 nf_X7_take ⟨Nat.le_of_ble_eq_true rfl, Nat.le_of_ble_eq_true rfl⟩ (rest := []) rfl (Nat.le_of_ble_eq_true rfl) dX7_span_65 ⟨Nat.le_of_ble_eq_true rfl, Nat.le_of_ble_eq_true rfl⟩) hR (rfl : 65 + 3 = 68) (fun S22 H locs hq hR => ?_)
        obtain ⟨hm23, h⟩ := hq
        have h := h hm23
        have hm := hp_mono.tr hm hm23
        refine hp_iconst E (1 : Int32) (by decide) dX7_span_68 (rfl : 68 + 1 = 69) ?_
        exact hp_zret E hR (Or.inr rfl) ⟨hm, h⟩ (Nat.le_of_ble_eq_true rfl) (Nat.le_of_ble_eq_true rfl) dX7_span_69
def wb_X7_classRow_0 (o : Nat) (a1 : Int32) (S : hp_St) (K0 : hp_St → Prop) (Q : Int32 → hp_St → Prop) : Prop := wp_X7_isNumber o (0 : Int32) (3 : Int32) S (fun z1 S2 => hp_mono S S2 → (((z1 = 0) → Q (0 : Int32) S2) ∧ ((¬ (z1 = 0)) → (st_C S2 (st_R S2 o 34) = 50) ∧ (vp_in a1 (st_L S2 (st_R S2 o 34))) ∧ ((((((st_I S2 (st_R S2 o 34) a1.toNatClampNeg) >>> ((st_I S2 o 28) &&& 31)) &&& (1 : Int32)) = (1 : Int32)) → wp_X7_wrong o (3 : Int32) S2 (fun z6 S7 => hp_mono S2 S7 → (z6 = 0 ∨ z6 = 1) ∧ Q z6 S7)) ∧ ((¬ ((((st_I S2 (st_R S2 o 34) a1.toNatClampNeg) >>> ((st_I S2 o 28) &&& 31)) &&& (1 : Int32)) = (1 : Int32))) → (vp_in a1 (st_L S2 (st_R S2 o 34))) ∧ (vp_in a1 (st_L S2 (st_R S2 o 34))) ∧ (∀ S12, S12 = st_pI S2 (st_R S2 o 34) a1.toNatClampNeg ((st_I S2 (st_R S2 o 34) a1.toNatClampNeg) ||| ((1 : Int32) <<< ((st_I S2 o 28) &&& 31))) → wp_X7_take o S12 (fun S15 => hp_mono S12 S15 → wp_X7_isWord o (14 : Int32) S15 (fun z17 => (((z17 = 0) → Q (1 : Int32) S15) ∧ ((¬ (z17 = 0)) → wp_X7_take o S15 (fun S18 => hp_mono S15 S18 → K0 S18)))))))))))
def wl_X7_classRow_0 (o : Nat) (a1 : Int32) (S : hp_St) (Q : Int32 → hp_St → Prop) : Prop := ∃ (I : hp_St → Prop) (μ : hp_St → Nat), I S ∧ ∀ (S1 : hp_St), hp_mono S S1 → I S1 → wb_X7_classRow_0 o a1 S1 (fun S2 => I S2 ∧ μ S2 < μ S1) Q
def wp_X7_classRow (o : Nat) (a1 : Int32) (S : hp_St) (Q : Int32 → hp_St → Prop) : Prop := wl_X7_classRow_0 o a1 S Q
theorem nf_X7_classRow : hp_nf yX7_classRow 1 = true := by decide +kernel
set_option maxHeartbeats 4000000 in
theorem m_X7_classRow {l : Launch} {B : Nat} {D : va_G} {s0 : State} {b0 : Nat} (G : hp_G l B D s0 b0) (o : Nat) (a1 : Int32) (Si : hp_St) (Q : Int32 → hp_St → Prop) (hc0 : st_C Si o = 7) (h : wp_X7_classRow o a1 Si Q) : hp_M l B D s0 yX7_classRow cX7_classRow 2 (some .boolean) 4 256 0 0 [hp_v B o, .int a1] Si (hp_Qi B D s0 (fun r S' => hp_mono Si S' ∧ Q r S')) := by
  refine hp_start G (by decide +kernel) rfl rfl (lv := [(0, hp_v B o), (1, .int a1)]) (by simp [lg_sl, hp_vc, hp_ci, hp_cj]) (by simp [lv_args, hp_vc, hp_ci, hp_cj]) ?_
  intro p e s m args below meth c E ls hl hR
  have hm : hp_mono Si Si := hp_mono.rf
  generalize hH : s.heap = H at hR ⊢
  generalize hLo : ([] : List Loc) = locs at hR ⊢
  have b0 : ∀ (S : hp_St) (H : Heap) (locs : List Loc) (ls : Array Slot), wl_X7_classRow_0 o a1 S Q → lv_has ls 2 [(0, hp_v B o), (1, .int a1)] → hp_S B D s0 S H locs → hp_mono Si S → W p l e ({ frames := 4, cells := 0, slots := 0, locals := 256 } : Room) s m args below meth c H locs 0 0 (MQ below (hp_Qi B D s0 (fun r S' => hp_mono Si S' ∧ Q r S')) args s 0 0 (fun q => B < q)) (F0 m 0 ls []) := by
    intro S H locs ls h hl hR hm
    obtain ⟨I0, μ0, hI, hst⟩ := h
    obtain ⟨Sa0, eSa0⟩ : ∃ x, x = S := ⟨_, rfl⟩
    subst eSa0
    have key0 : ∀ (N : Nat) (Su0 : hp_St) (H : Heap) (locs : List Loc) (ls : Array Slot), μ0 Su0 < N → I0 Su0 → lv_has ls 2 [(0, hp_v B o), (1, .int a1)] → hp_S B D s0 Su0 H locs → hp_mono Sa0 Su0 → W p l e ({ frames := 4, cells := 0, slots := 0, locals := 256 } : Room) s m args below meth c H locs 0 0 (MQ below (hp_Qi B D s0 (fun r S' => hp_mono Si S' ∧ Q r S')) args s 0 0 (fun q => B < q)) (F0 m 0 ls []) := by
      intro N
      induction N with
      | zero =>
        intro Su0 H locs ls hN
        exact absurd hN (Nat.not_lt_zero _)
      | succ N ih0 =>
        intro Su0 H locs ls hN hI hl hR ms0
        have h := hst Su0 ms0 hI
        have hm := hp_mono.tr hm ms0
        obtain ⟨K0, hKe0⟩ : ∃ K : hp_St → Prop, K = (fun Sk => I0 Sk ∧ μ0 Sk < μ0 Su0) := ⟨_, rfl⟩
        rw [← hKe0] at h
        have hK0 : ∀ (Sk : hp_St) (H : Heap) (locs : List Loc) (ls : Array Slot), K0 Sk → lv_has ls 2 [(0, hp_v B o), (1, .int a1)] → hp_S B D s0 Sk H locs → hp_mono Sa0 Sk → W p l e ({ frames := 4, cells := 0, slots := 0, locals := 256 } : Room) s m args below meth c H locs 0 0 (MQ below (hp_Qi B D s0 (fun r S' => hp_mono Si S' ∧ Q r S')) args s 0 0 (fun q => B < q)) (F0 m 0 ls []) := by
          intro Sk H locs ls hI hl hR ms
          rw [hKe0] at hI
          exact ih0 Sk H locs ls (Nat.lt_of_lt_of_le hI.2 (Nat.le_of_lt_succ hN)) hI.1 hl hR ms
        unfold wb_X7_classRow_0 at h
        refine hp_aload_n E hl 0 rfl 0 rfl dX7_classRow_0 (rfl : 0 + 1 = 1) ?_
        refine hp_iconst E (0 : Int32) (by decide) dX7_classRow_1 (rfl : 1 + 1 = 2) ?_
        refine hp_iconst E (3 : Int32) (by decide) dX7_classRow_2 (rfl : 2 + 1 = 3) ?_
        refine hp_fi (hp_rV E hR hl (m_X7_isNumber G _ _ _ _ _ (hp_mono.c hm hc0) h) (hp_mono.c hm hc0) (ci := 6) rfl rfl q1472 q1474 qs38 q82 q1475 nf_X7_isNumber ⟨Nat.le_of_ble_eq_true rfl, Nat.le_of_ble_eq_true rfl⟩ (rest := []) rfl (Nat.le_of_ble_eq_true rfl) dX7_classRow_3 ⟨Nat.le_of_ble_eq_true rfl, Nat.le_of_ble_eq_true rfl⟩) hR (rfl : 3 + 3 = 6) (fun z1 S2 H locs hq hR => ?_)
        obtain ⟨hm3, h⟩ := hq
        have h := h hm3
        have hm := hp_mono.tr hm hm3
        have ms0 := hp_mono.tr ms0 hm3
        refine hp_if_ne E dX7_classRow_6 (rfl : 6 + 3 = 9) (tgt := 11) (by decide) (fun hb => ?_) (fun hb => ?_)
        · have h := h.1 hb
          refine hp_iconst E (0 : Int32) (by decide) dX7_classRow_9 (rfl : 9 + 1 = 10) ?_
          exact hp_zret E hR (Or.inl rfl) ⟨hm, h⟩ (Nat.le_of_ble_eq_true rfl) (Nat.le_of_ble_eq_true rfl) dX7_classRow_10
        · have h := h.2 hb
          refine hp_aload_n E hl 0 rfl 0 rfl dX7_classRow_11 (rfl : 11 + 1 = 12) ?_
          refine hp_getR E hR in_X7 (hp_mono.c hm hc0) rfl 34 (Nat.le_of_ble_eq_true rfl) rfl q1295 (fun _ h => h) dX7_classRow_12 (rfl : 12 + 3 = 15) ?_
          refine hp_iload_n E hl 1 rfl 1 rfl dX7_classRow_15 (rfl : 15 + 1 = 16) ?_
          obtain ⟨hc4, h⟩ := h
          obtain ⟨hi5, h⟩ := h
          refine hp_iald E hR hc4 hi5 dX7_classRow_16 (rfl : 16 + 1 = 17) ?_
          refine hp_aload_n E hl 0 rfl 0 rfl dX7_classRow_17 (rfl : 17 + 1 = 18) ?_
          refine hp_getI E hR in_X7 (hp_mono.c hm hc0) rfl 28 (Nat.le_of_ble_eq_true rfl) rfl q1289 (fun _ h => h) dX7_classRow_18 (rfl : 18 + 3 = 21) ?_
          refine hp_ishr E dX7_classRow_21 (rfl : 21 + 1 = 22) ?_
          refine hp_iconst E (1 : Int32) (by decide) dX7_classRow_22 (rfl : 22 + 1 = 23) ?_
          refine hp_iand E dX7_classRow_23 (rfl : 23 + 1 = 24) ?_
          refine hp_iconst E (1 : Int32) (by decide) dX7_classRow_24 (rfl : 24 + 1 = 25) ?_
          refine hp_icmp_ne E dX7_classRow_25 (rfl : 25 + 3 = 28) (tgt := 34) (by decide) (fun hb => ?_) (fun hb => ?_)
          · have h := h.1 hb
            refine hp_aload_n E hl 0 rfl 0 rfl dX7_classRow_28 (rfl : 28 + 1 = 29) ?_
            refine hp_iconst E (3 : Int32) (by decide) dX7_classRow_29 (rfl : 29 + 1 = 30) ?_
            refine hp_fi (hp_rV E hR hl (m_X7_wrong G _ _ _ _ (hp_mono.c hm hc0) h) (hp_mono.c hm hc0) (ci := 6) rfl rfl q1464 q1466 qs36 q82 q1467 nf_X7_wrong ⟨Nat.le_of_ble_eq_true rfl, Nat.le_of_ble_eq_true rfl⟩ (rest := []) rfl (Nat.le_of_ble_eq_true rfl) dX7_classRow_30 ⟨Nat.le_of_ble_eq_true rfl, Nat.le_of_ble_eq_true rfl⟩) hR (rfl : 30 + 3 = 33) (fun z6 S7 H locs hq hR => ?_)
            obtain ⟨hm8, h⟩ := hq
            have h := h hm8
            have hm := hp_mono.tr hm hm8
            have ms0 := hp_mono.tr ms0 hm8
            obtain ⟨hz9, h⟩ := h
            exact hp_zret E hR hz9 ⟨hm, h⟩ (Nat.le_of_ble_eq_true rfl) (Nat.le_of_ble_eq_true rfl) dX7_classRow_33
          · have h := h.2 hb
            refine hp_aload_n E hl 0 rfl 0 rfl dX7_classRow_34 (rfl : 34 + 1 = 35) ?_
            refine hp_getR E hR in_X7 (hp_mono.c hm hc0) rfl 34 (Nat.le_of_ble_eq_true rfl) rfl q1295 (fun _ h => h) dX7_classRow_35 (rfl : 35 + 3 = 38) ?_
            refine hp_iload_n E hl 1 rfl 1 rfl dX7_classRow_38 (rfl : 38 + 1 = 39) ?_
            refine hp_dup2 E rfl hp_vc dX7_classRow_39 (rfl : 39 + 1 = 40) ?_
            obtain ⟨hi10, h⟩ := h
            refine hp_iald E hR hc4 hi10 dX7_classRow_40 (rfl : 40 + 1 = 41) ?_
            refine hp_iconst E (1 : Int32) (by decide) dX7_classRow_41 (rfl : 41 + 1 = 42) ?_
            refine hp_aload_n E hl 0 rfl 0 rfl dX7_classRow_42 (rfl : 42 + 1 = 43) ?_
            refine hp_getI E hR in_X7 (hp_mono.c hm hc0) rfl 28 (Nat.le_of_ble_eq_true rfl) rfl q1289 (fun _ h => h) dX7_classRow_43 (rfl : 43 + 3 = 46) ?_
            refine hp_ishl E dX7_classRow_46 (rfl : 46 + 1 = 47) ?_
            refine hp_ior E dX7_classRow_47 (rfl : 47 + 1 = 48) ?_
            obtain ⟨hi11, h⟩ := h
            refine hx_iast E hR hc4 hi11 dX7_classRow_48 (rfl : 48 + 1 = 49) (fun S12 H locs e14 hm13 hR => ?_)
            have h := h S12 e14
            have hm := hp_mono.tr hm hm13
            have ms0 := hp_mono.tr ms0 hm13
            refine hp_aload_n E hl 0 rfl 0 rfl dX7_classRow_49 (rfl : 49 + 1 = 50) ?_
            refine hp_fv (hp_rV E hR hl (m_X7_take G _ _ _ (hp_mono.c hm hc0) h) (hp_mono.c hm hc0) (ci := 6) rfl rfl q1448 q1450 qs32 q82 q1451 nf_X7_take ⟨Nat.le_of_ble_eq_true rfl, Nat.le_of_ble_eq_true rfl⟩ (rest := []) rfl (Nat.le_of_ble_eq_true rfl) dX7_classRow_50 ⟨Nat.le_of_ble_eq_true rfl, Nat.le_of_ble_eq_true rfl⟩) hR (rfl : 50 + 3 = 53) (fun S15 H locs hq hR => ?_)
            obtain ⟨hm16, h⟩ := hq
            have h := h hm16
            have hm := hp_mono.tr hm hm16
            have ms0 := hp_mono.tr ms0 hm16
            refine hp_aload_n E hl 0 rfl 0 rfl dX7_classRow_53 (rfl : 53 + 1 = 54) ?_
            refine hp_bipush E (14 : Int32) (by decide) dX7_classRow_54 (rfl : 54 + 2 = 56) ?_
            refine hp_fi (hp_rV E hR hl (m_X7_isWord G _ _ _ _ (hp_mono.c hm hc0) h) (hp_mono.c hm hc0) (ci := 6) rfl rfl q1484 q1486 qs41 q82 q1487 nf_X7_isWord ⟨Nat.le_of_ble_eq_true rfl, Nat.le_of_ble_eq_true rfl⟩ (rest := []) rfl (Nat.le_of_ble_eq_true rfl) dX7_classRow_56 ⟨Nat.le_of_ble_eq_true rfl, Nat.le_of_ble_eq_true rfl⟩) hR (rfl : 56 + 3 = 59) (fun z17 Sx H locs hq hR => ?_)
            obtain ⟨hSx, h⟩ := hq
            rw [hSx] at hR
            refine hp_if_ne E dX7_classRow_59 (rfl : 59 + 3 = 62) (tgt := 64) (by decide) (fun hb => ?_) (fun hb => ?_)
            · have h := h.1 hb
              refine hp_iconst E (1 : Int32) (by decide) dX7_classRow_62 (rfl : 62 + 1 = 63) ?_
              exact hp_zret E hR (Or.inr rfl) ⟨hm, h⟩ (Nat.le_of_ble_eq_true rfl) (Nat.le_of_ble_eq_true rfl) dX7_classRow_63
            · have h := h.2 hb
              refine hp_aload_n E hl 0 rfl 0 rfl dX7_classRow_64 (rfl : 64 + 1 = 65) ?_
              refine hp_fv (hp_rV E hR hl (m_X7_take G _ _ _ (hp_mono.c hm hc0) h) (hp_mono.c hm hc0) (ci := 6) rfl rfl q1448 q1450 qs32 q82 q1451 nf_X7_take ⟨Nat.le_of_ble_eq_true rfl, Nat.le_of_ble_eq_true rfl⟩ (rest := []) rfl (Nat.le_of_ble_eq_true rfl) dX7_classRow_65 ⟨Nat.le_of_ble_eq_true rfl, Nat.le_of_ble_eq_true rfl⟩) hR (rfl : 65 + 3 = 68) (fun S18 H locs hq hR => ?_)
              obtain ⟨hm19, h⟩ := hq
              have h := h hm19
              have hm := hp_mono.tr hm hm19
              have ms0 := hp_mono.tr ms0 hm19
              refine hp_goto E (tgt := 0) dX7_classRow_68 (by decide) ?_
              exact hK0 _ _ _ _ h hl hR ms0
    exact key0 (μ0 Sa0 + 1) _ H locs ls (Nat.lt_succ_self _) hI hl hR hp_mono.rf
  unfold wp_X7_classRow at h
  exact b0 _ _ _ _ h hl hR hm
def wb_X7_whom_339 (o : Nat) (a1 : Int32) (S : hp_St) (Q : Int32 → hp_St → Prop) : Prop := Q (1 : Int32) S
def wb_X7_whom_322 (o : Nat) (a1 : Int32) (S : hp_St) (Q : Int32 → hp_St → Prop) : Prop := (st_C S (st_R S o 34) = 50) ∧ (vp_in a1 (st_L S (st_R S o 34))) ∧ ((((st_I S (st_R S o 34) a1.toNatClampNeg) = 0) → (vp_in a1 (st_L S (st_R S o 34))) ∧ (∀ S32204, S32204 = st_pI S (st_R S o 34) a1.toNatClampNeg (15 : Int32) → wb_X7_whom_339 o a1 S32204 Q)) ∧ ((¬ ((st_I S (st_R S o 34) a1.toNatClampNeg) = 0)) → wb_X7_whom_339 o a1 S Q))
def wb_X7_whom_319 (o : Nat) (a1 : Int32) (v2 : Int32) (v3 : Int32) (S : hp_St) (K50 : Int32 → Int32 → hp_St → Prop) (Q : Int32 → hp_St → Prop) : Prop := K50 v2 v3 S
def wb_X7_whom_230 (o : Nat) (a1 : Int32) (v2 : Int32) (v4 : Int32) (t0 : Int32) (S : hp_St) (K50 : Int32 → Int32 → hp_St → Prop) (Q : Int32 → hp_St → Prop) : Prop := (((v4 = (8 : Int32)) → (st_C S (st_R S o 32) = 50) ∧ (vp_in a1 (st_L S (st_R S o 32))) ∧ (∀ S23003, S23003 = st_pI S (st_R S o 32) a1.toNatClampNeg (st_I S o 42) → (st_C S23003 (st_R S23003 o 33) = 50) ∧ (vp_in a1 (st_L S23003 (st_R S23003 o 33))) ∧ (∀ S23008, S23008 = st_pI S23003 (st_R S23003 o 33) a1.toNatClampNeg (st_I S23003 o 43) → wb_X7_whom_319 o a1 v2 t0 S23008 K50 Q))) ∧ ((¬ (v4 = (8 : Int32))) → (st_C S (st_R S o 35) = 50) ∧ (vp_in a1 (st_L S (st_R S o 35))) ∧ (∀ S23013, S23013 = st_pI S (st_R S o 35) a1.toNatClampNeg (st_I S o 42) → (st_C S23013 (st_R S23013 o 36) = 50) ∧ (vp_in a1 (st_L S23013 (st_R S23013 o 36))) ∧ (∀ S23018, S23018 = st_pI S23013 (st_R S23013 o 36) a1.toNatClampNeg (st_I S23013 o 43) → wb_X7_whom_319 o a1 v2 t0 S23018 K50 Q))))
def wb_X7_whom_225 (o : Nat) (a1 : Int32) (v2 : Int32) (v4 : Int32) (S : hp_St) (K50 : Int32 → Int32 → hp_St → Prop) (Q : Int32 → hp_St → Prop) : Prop := wb_X7_whom_230 o a1 v2 v4 (1 : Int32) S K50 Q
def wb_X7_whom_213 (o : Nat) (a1 : Int32) (v3 : Int32) (v4 : Int32) (t0 : Int32) (S : hp_St) (K50 : Int32 → Int32 → hp_St → Prop) (Q : Int32 → hp_St → Prop) : Prop := (((v3 = 0) → (((v4 = (10 : Int32)) → wb_X7_whom_225 o a1 t0 v4 S K50 Q) ∧ ((¬ (v4 = (10 : Int32))) → wb_X7_whom_230 o a1 t0 v4 (0 : Int32) S K50 Q))) ∧ ((¬ (v3 = 0)) → wb_X7_whom_225 o a1 t0 v4 S K50 Q))
def wb_X7_whom_208 (o : Nat) (a1 : Int32) (v3 : Int32) (v4 : Int32) (S : hp_St) (K50 : Int32 → Int32 → hp_St → Prop) (Q : Int32 → hp_St → Prop) : Prop := wb_X7_whom_213 o a1 v3 v4 (1 : Int32) S K50 Q
def wb_X7_whom_189 (o : Nat) (a1 : Int32) (v2 : Int32) (v3 : Int32) (v4 : Int32) (t0 : Nat) (t1 : Int32) (S : hp_St) (K50 : Int32 → Int32 → hp_St → Prop) (Q : Int32 → hp_St → Prop) : Prop := (st_C S t0 = 7) ∧ wp_X7_span t0 t1 S (fun z18902 S18903 => hp_mono S S18903 → (((z18902 = 0) → Q (0 : Int32) S18903) ∧ ((¬ (z18902 = 0)) → (((v2 = 0) → (((v4 = (8 : Int32)) → wb_X7_whom_208 o a1 v3 v4 S18903 K50 Q) ∧ ((¬ (v4 = (8 : Int32))) → wb_X7_whom_213 o a1 v3 v4 (0 : Int32) S18903 K50 Q))) ∧ ((¬ (v2 = 0)) → wb_X7_whom_208 o a1 v3 v4 S18903 K50 Q)))))
def wb_X7_whom_173 (o : Nat) (a1 : Int32) (v2 : Int32) (v3 : Int32) (v4 : Int32) (S : hp_St) (K50 : Int32 → Int32 → hp_St → Prop) (Q : Int32 → hp_St → Prop) : Prop := (((v4 = (8 : Int32)) → wb_X7_whom_189 o a1 v2 v3 v4 o (130 : Int32) S K50 Q) ∧ ((¬ (v4 = (8 : Int32))) → wb_X7_whom_189 o a1 v2 v3 v4 o (79 : Int32) S K50 Q))
def wb_X7_whom_318 (o : Nat) (a1 : Int32) (v2 : Int32) (v3 : Int32) (t0 : Nat) (t1 : Int32) (t2 : Int32) (S : hp_St) (K50 : Int32 → Int32 → hp_St → Prop) (Q : Int32 → hp_St → Prop) : Prop := (st_C S t0 = 50) ∧ (vp_in t1 (st_L S t0)) ∧ (∀ S31803, S31803 = st_pI S t0 t1.toNatClampNeg t2 → wb_X7_whom_319 o a1 v2 v3 S31803 K50 Q)
def wb_X7_whom_142 (o : Nat) (a1 : Int32) (v2 : Int32) (v3 : Int32) (v4 : Int32) (t0 : Int32) (S : hp_St) (K50 : Int32 → Int32 → hp_St → Prop) (Q : Int32 → hp_St → Prop) : Prop := (((t0 = 0) → wp_X7_take o S (fun S14201 => hp_mono S S14201 → (((v4 = (8 : Int32)) → wb_X7_whom_173 o a1 v2 v3 v4 S14201 K50 Q) ∧ ((¬ (v4 = (8 : Int32))) → (((v4 = (10 : Int32)) → wb_X7_whom_173 o a1 v2 v3 v4 S14201 K50 Q) ∧ ((¬ (v4 = (10 : Int32))) → (((v4 = (9 : Int32)) → wp_X7_classRow o a1 S14201 (fun z14203 S14204 => hp_mono S14201 S14204 → (((z14203 = 0) → Q (0 : Int32) S14204) ∧ ((¬ (z14203 = 0)) → wb_X7_whom_319 o a1 v2 v3 S14204 K50 Q)))) ∧ ((¬ (v4 = (9 : Int32))) → (((v4 = (11 : Int32)) → wb_X7_whom_318 o a1 v2 v3 (st_R S14201 o 37) a1 (1 : Int32) S14201 K50 Q) ∧ ((¬ (v4 = (11 : Int32))) → wb_X7_whom_318 o a1 v2 v3 (st_R S14201 o 37) a1 (2 : Int32) S14201 K50 Q)))))))))) ∧ ((¬ (t0 = 0)) → wp_X7_wrong o (3 : Int32) S (fun z14206 S14207 => hp_mono S S14207 → (z14206 = 0 ∨ z14206 = 1) ∧ Q z14206 S14207)))
def wb_X7_whom_50 (o : Nat) (a1 : Int32) (v2 : Int32) (v3 : Int32) (S : hp_St) (K50 : Int32 → Int32 → hp_St → Prop) (Q : Int32 → hp_St → Prop) : Prop := ((((st_I S o 27) = (1 : Int32)) → ((((st_I S o 28) < (8 : Int32)) → wb_X7_whom_322 o a1 S Q) ∧ ((¬ ((st_I S o 28) < (8 : Int32))) → ((((st_I S o 28) ≤ (12 : Int32)) → ((((st_I S o 28) = (8 : Int32)) → wb_X7_whom_142 o a1 v2 v3 (st_I S o 28) v2 S K50 Q) ∧ ((¬ ((st_I S o 28) = (8 : Int32))) → ((((st_I S o 28) = (9 : Int32)) → (st_C S (st_R S o 34) = 50) ∧ (vp_in a1 (st_L S (st_R S o 34))) ∧ ((((st_I S (st_R S o 34) a1.toNatClampNeg) ≤ 0) → wb_X7_whom_142 o a1 v2 v3 (st_I S o 28) (0 : Int32) S K50 Q) ∧ ((¬ ((st_I S (st_R S o 34) a1.toNatClampNeg) ≤ 0)) → wb_X7_whom_142 o a1 v2 v3 (st_I S o 28) (1 : Int32) S K50 Q))) ∧ ((¬ ((st_I S o 28) = (9 : Int32))) → ((((st_I S o 28) = (10 : Int32)) → wb_X7_whom_142 o a1 v2 v3 (st_I S o 28) v3 S K50 Q) ∧ ((¬ ((st_I S o 28) = (10 : Int32))) → (st_C S (st_R S o 37) = 50) ∧ (vp_in a1 (st_L S (st_R S o 37))) ∧ ((((st_I S (st_R S o 37) a1.toNatClampNeg) ≤ 0) → wb_X7_whom_142 o a1 v2 v3 (st_I S o 28) (0 : Int32) S K50 Q) ∧ ((¬ ((st_I S (st_R S o 37) a1.toNatClampNeg) ≤ 0)) → wb_X7_whom_142 o a1 v2 v3 (st_I S o 28) (1 : Int32) S K50 Q))))))))) ∧ ((¬ ((st_I S o 28) ≤ (12 : Int32))) → wb_X7_whom_322 o a1 S Q))))) ∧ ((¬ ((st_I S o 27) = (1 : Int32))) → wb_X7_whom_322 o a1 S Q))
def wl_X7_whom_50 (o : Nat) (a1 : Int32) (v2 : Int32) (v3 : Int32) (S : hp_St) (Q : Int32 → hp_St → Prop) : Prop := ∃ (I : Int32 → Int32 → hp_St → Prop) (μ : Int32 → Int32 → hp_St → Nat), I v2 v3 S ∧ ∀ (v2 : Int32) (v3 : Int32) (S1 : hp_St), hp_mono S S1 → I v2 v3 S1 → wb_X7_whom_50 o a1 v2 v3 S1 (fun v2' v3' S2 => I v2' v3' S2 ∧ μ v2' v3' S2 < μ v2 v3 S1) Q
def wp_X7_whom (o : Nat) (a1 : Int32) (S : hp_St) (Q : Int32 → hp_St → Prop) : Prop := (st_C S (st_R S o 32) = 50) ∧ (vp_in a1 (st_L S (st_R S o 32))) ∧ (∀ S3, S3 = st_pI S (st_R S o 32) a1.toNatClampNeg (0 : Int32) → (st_C S3 (st_R S3 o 33) = 50) ∧ (vp_in a1 (st_L S3 (st_R S3 o 33))) ∧ (∀ S8, S8 = st_pI S3 (st_R S3 o 33) a1.toNatClampNeg (1000 : Int32) → (st_C S8 (st_R S8 o 34) = 50) ∧ (vp_in a1 (st_L S8 (st_R S8 o 34))) ∧ (∀ S13, S13 = st_pI S8 (st_R S8 o 34) a1.toNatClampNeg (0 : Int32) → (st_C S13 (st_R S13 o 35) = 50) ∧ (vp_in a1 (st_L S13 (st_R S13 o 35))) ∧ (∀ S18, S18 = st_pI S13 (st_R S13 o 35) a1.toNatClampNeg (0 : Int32) → (st_C S18 (st_R S18 o 36) = 50) ∧ (vp_in a1 (st_L S18 (st_R S18 o 36))) ∧ (∀ S23, S23 = st_pI S18 (st_R S18 o 36) a1.toNatClampNeg (1000 : Int32) → (st_C S23 (st_R S23 o 37) = 50) ∧ (vp_in a1 (st_L S23 (st_R S23 o 37))) ∧ (∀ S28, S28 = st_pI S23 (st_R S23 o 37) a1.toNatClampNeg (0 : Int32) → wl_X7_whom_50 o a1 (0 : Int32) (0 : Int32) S28 Q))))))
theorem nf_X7_whom : hp_nf yX7_whom 1 = true := by decide +kernel
set_option maxHeartbeats 4000000 in
theorem m_X7_whom {l : Launch} {B : Nat} {D : va_G} {s0 : State} {b0 : Nat} (G : hp_G l B D s0 b0) (o : Nat) (a1 : Int32) (Si : hp_St) (Q : Int32 → hp_St → Prop) (hc0 : st_C Si o = 7) (h : wp_X7_whom o a1 Si Q) : hp_M l B D s0 yX7_whom cX7_whom 6 (some .boolean) 5 320 0 0 [hp_v B o, .int a1] Si (hp_Qi B D s0 (fun r S' => hp_mono Si S' ∧ Q r S')) := by
  refine hp_start G (by decide +kernel) rfl rfl (lv := [(0, hp_v B o), (1, .int a1)]) (by simp [lg_sl, hp_vc, hp_ci, hp_cj]) (by simp [lv_args, hp_vc, hp_ci, hp_cj]) ?_
  intro p e s m args below meth c E ls hl hR
  have hm : hp_mono Si Si := hp_mono.rf
  generalize hH : s.heap = H at hR ⊢
  generalize hLo : ([] : List Loc) = locs at hR ⊢
  have b339 : ∀ (S : hp_St) (H : Heap) (locs : List Loc) (ls : Array Slot), wb_X7_whom_339 o a1 S Q → lv_has ls 6 [] → hp_S B D s0 S H locs → hp_mono Si S → W p l e ({ frames := 5, cells := 0, slots := 0, locals := 320 } : Room) s m args below meth c H locs 0 0 (MQ below (hp_Qi B D s0 (fun r S' => hp_mono Si S' ∧ Q r S')) args s 0 0 (fun q => B < q)) (F0 m 339 ls []) := by
    intro S H locs ls h hl hR hm
    unfold wb_X7_whom_339 at h
    refine hp_iconst E (1 : Int32) (by decide) dX7_whom_339 (rfl : 339 + 1 = 340) ?_
    exact hp_zret E hR (Or.inr rfl) ⟨hm, h⟩ (Nat.le_of_ble_eq_true rfl) (Nat.le_of_ble_eq_true rfl) dX7_whom_340
  have b322 : ∀ (S : hp_St) (H : Heap) (locs : List Loc) (ls : Array Slot), wb_X7_whom_322 o a1 S Q → lv_has ls 6 [(0, hp_v B o), (1, .int a1)] → hp_S B D s0 S H locs → hp_mono Si S → W p l e ({ frames := 5, cells := 0, slots := 0, locals := 320 } : Room) s m args below meth c H locs 0 0 (MQ below (hp_Qi B D s0 (fun r S' => hp_mono Si S' ∧ Q r S')) args s 0 0 (fun q => B < q)) (F0 m 322 ls []) := by
    intro S H locs ls h hl hR hm
    unfold wb_X7_whom_322 at h
    refine hp_aload_n E hl 0 rfl 0 rfl dX7_whom_322 (rfl : 322 + 1 = 323) ?_
    refine hp_getR E hR in_X7 (hp_mono.c hm hc0) rfl 34 (Nat.le_of_ble_eq_true rfl) rfl q1295 (fun _ h => h) dX7_whom_323 (rfl : 323 + 3 = 326) ?_
    refine hp_iload_n E hl 1 rfl 1 rfl dX7_whom_326 (rfl : 326 + 1 = 327) ?_
    obtain ⟨hc32201, h⟩ := h
    obtain ⟨hi32202, h⟩ := h
    refine hp_iald E hR hc32201 hi32202 dX7_whom_327 (rfl : 327 + 1 = 328) ?_
    refine hp_if_ne E dX7_whom_328 (rfl : 328 + 3 = 331) (tgt := 339) (by decide) (fun hb => ?_) (fun hb => ?_)
    · have h := h.1 hb
      refine hp_aload_n E hl 0 rfl 0 rfl dX7_whom_331 (rfl : 331 + 1 = 332) ?_
      refine hp_getR E hR in_X7 (hp_mono.c hm hc0) rfl 34 (Nat.le_of_ble_eq_true rfl) rfl q1295 (fun _ h => h) dX7_whom_332 (rfl : 332 + 3 = 335) ?_
      refine hp_iload_n E hl 1 rfl 1 rfl dX7_whom_335 (rfl : 335 + 1 = 336) ?_
      refine hp_bipush E (15 : Int32) (by decide) dX7_whom_336 (rfl : 336 + 2 = 338) ?_
      obtain ⟨hi32203, h⟩ := h
      refine hx_iast E hR hc32201 hi32203 dX7_whom_338 (rfl : 338 + 1 = 339) (fun S32204 H locs e32206 hm32205 hR => ?_)
      have h := h S32204 e32206
      have hm := hp_mono.tr hm hm32205
      exact b339 _ _ _ _ h (lv_sub hl [] rfl) hR hm
    · have h := h.2 hb
      exact b339 _ _ _ _ h (lv_sub hl [] rfl) hR hm
  have b50 : ∀ (v2 : Int32) (v3 : Int32) (S : hp_St) (H : Heap) (locs : List Loc) (ls : Array Slot), wl_X7_whom_50 o a1 v2 v3 S Q → lv_has ls 6 [(0, hp_v B o), (1, .int a1), (2, .int v2), (3, .int v3)] → hp_S B D s0 S H locs → hp_mono Si S → W p l e ({ frames := 5, cells := 0, slots := 0, locals := 320 } : Room) s m args below meth c H locs 0 0 (MQ below (hp_Qi B D s0 (fun r S' => hp_mono Si S' ∧ Q r S')) args s 0 0 (fun q => B < q)) (F0 m 50 ls []) := by
    intro v2 v3 S H locs ls h hl hR hm
    obtain ⟨I50, μ50, hI, hst⟩ := h
    obtain ⟨Sa50, eSa50⟩ : ∃ x, x = S := ⟨_, rfl⟩
    subst eSa50
    have key50 : ∀ (N : Nat) (v2 : Int32) (v3 : Int32) (Su50 : hp_St) (H : Heap) (locs : List Loc) (ls : Array Slot), μ50 v2 v3 Su50 < N → I50 v2 v3 Su50 → lv_has ls 6 [(0, hp_v B o), (1, .int a1), (2, .int v2), (3, .int v3)] → hp_S B D s0 Su50 H locs → hp_mono Sa50 Su50 → W p l e ({ frames := 5, cells := 0, slots := 0, locals := 320 } : Room) s m args below meth c H locs 0 0 (MQ below (hp_Qi B D s0 (fun r S' => hp_mono Si S' ∧ Q r S')) args s 0 0 (fun q => B < q)) (F0 m 50 ls []) := by
      intro N
      induction N with
      | zero =>
        intro v2 v3 Su50 H locs ls hN
        exact absurd hN (Nat.not_lt_zero _)
      | succ N ih50 =>
        intro v2 v3 Su50 H locs ls hN hI hl hR ms50
        have h := hst v2 v3 Su50 ms50 hI
        have hm := hp_mono.tr hm ms50
        obtain ⟨K50, hKe50⟩ : ∃ K : Int32 → Int32 → hp_St → Prop, K = (fun v2' v3' Sk => I50 v2' v3' Sk ∧ μ50 v2' v3' Sk < μ50 v2 v3 Su50) := ⟨_, rfl⟩
        rw [← hKe50] at h
        have hK50 : ∀ (v2' : Int32) (v3' : Int32) (Sk : hp_St) (H : Heap) (locs : List Loc) (ls : Array Slot), K50 v2' v3' Sk → lv_has ls 6 [(0, hp_v B o), (1, .int a1), (2, .int (v2')), (3, .int (v3'))] → hp_S B D s0 Sk H locs → hp_mono Sa50 Sk → W p l e ({ frames := 5, cells := 0, slots := 0, locals := 320 } : Room) s m args below meth c H locs 0 0 (MQ below (hp_Qi B D s0 (fun r S' => hp_mono Si S' ∧ Q r S')) args s 0 0 (fun q => B < q)) (F0 m 50 ls []) := by
          intro v2' v3' Sk H locs ls hI hl hR ms
          rw [hKe50] at hI
          exact ih50 v2' v3' Sk H locs ls (Nat.lt_of_lt_of_le hI.2 (Nat.le_of_lt_succ hN)) hI.1 hl hR ms
        have b319 : ∀ (v2 : Int32) (v3 : Int32) (S : hp_St) (H : Heap) (locs : List Loc) (ls : Array Slot), wb_X7_whom_319 o a1 v2 v3 S K50 Q → lv_has ls 6 [(0, hp_v B o), (1, .int a1), (2, .int v2), (3, .int v3)] → hp_S B D s0 S H locs → hp_mono Si S → hp_mono Sa50 S → W p l e ({ frames := 5, cells := 0, slots := 0, locals := 320 } : Room) s m args below meth c H locs 0 0 (MQ below (hp_Qi B D s0 (fun r S' => hp_mono Si S' ∧ Q r S')) args s 0 0 (fun q => B < q)) (F0 m 319 ls []) := by
          intro v2 v3 S H locs ls h hl hR hm ms50
          unfold wb_X7_whom_319 at h
          refine hp_goto E (tgt := 50) dX7_whom_319 (by decide) ?_
          exact hK50 _ _ _ _ _ _ h hl hR ms50
        have b230 : ∀ (v2 : Int32) (v4 : Int32) (t0 : Int32) (S : hp_St) (H : Heap) (locs : List Loc) (ls : Array Slot), wb_X7_whom_230 o a1 v2 v4 t0 S K50 Q → lv_has ls 6 [(0, hp_v B o), (1, .int a1), (2, .int v2), (4, .int v4)] → hp_S B D s0 S H locs → hp_mono Si S → hp_mono Sa50 S → W p l e ({ frames := 5, cells := 0, slots := 0, locals := 320 } : Room) s m args below meth c H locs 0 0 (MQ below (hp_Qi B D s0 (fun r S' => hp_mono Si S' ∧ Q r S')) args s 0 0 (fun q => B < q)) (F0 m 230 ls [.int t0]) := by
          intro v2 v4 t0 S H locs ls h hl hR hm ms50
          unfold wb_X7_whom_230 at h
          refine hp_istore_n E hl 3 rfl (lv' := [(0, hp_v B o), (1, .int a1), (2, .int v2), (4, .int v4)]) dX7_whom_230 (rfl : 230 + 1 = 231) (by decide) rfl (fun ls hl => ?_)
          refine hp_iload E hl 4 rfl dX7_whom_231 (rfl : 231 + 2 = 233) ?_
          refine hp_bipush E (8 : Int32) (by decide) dX7_whom_233 (rfl : 233 + 2 = 235) ?_
          refine hp_icmp_ne E dX7_whom_235 (rfl : 235 + 3 = 238) (tgt := 261) (by decide) (fun hb => ?_) (fun hb => ?_)
          · have h := h.1 hb
            refine hp_aload_n E hl 0 rfl 1 rfl dX7_whom_238 (rfl : 238 + 1 = 239) ?_
            refine hp_getR E hR in_X7 (hp_mono.c hm hc0) rfl 32 (Nat.le_of_ble_eq_true rfl) rfl q1293 (fun _ h => h) dX7_whom_239 (rfl : 239 + 3 = 242) ?_
            refine hp_iload_n E hl 1 rfl 2 rfl dX7_whom_242 (rfl : 242 + 1 = 243) ?_
            refine hp_aload_n E hl 0 rfl 1 rfl dX7_whom_243 (rfl : 243 + 1 = 244) ?_
            refine hp_getI E hR in_X7 (hp_mono.c hm hc0) rfl 42 (Nat.le_of_ble_eq_true rfl) rfl q1303 (fun _ h => h) dX7_whom_244 (rfl : 244 + 3 = 247) ?_
            obtain ⟨hc23001, h⟩ := h
            obtain ⟨hi23002, h⟩ := h
            refine hx_iast E hR hc23001 hi23002 dX7_whom_247 (rfl : 247 + 1 = 248) (fun S23003 H locs e23005 hm23004 hR => ?_)
            have h := h S23003 e23005
            have hm := hp_mono.tr hm hm23004
            have ms50 := hp_mono.tr ms50 hm23004
            refine hp_aload_n E hl 0 rfl 1 rfl dX7_whom_248 (rfl : 248 + 1 = 249) ?_
            refine hp_getR E hR in_X7 (hp_mono.c hm hc0) rfl 33 (Nat.le_of_ble_eq_true rfl) rfl q1294 (fun _ h => h) dX7_whom_249 (rfl : 249 + 3 = 252) ?_
            refine hp_iload_n E hl 1 rfl 2 rfl dX7_whom_252 (rfl : 252 + 1 = 253) ?_
            refine hp_aload_n E hl 0 rfl 1 rfl dX7_whom_253 (rfl : 253 + 1 = 254) ?_
            refine hp_getI E hR in_X7 (hp_mono.c hm hc0) rfl 43 (Nat.le_of_ble_eq_true rfl) rfl q1304 (fun _ h => h) dX7_whom_254 (rfl : 254 + 3 = 257) ?_
            obtain ⟨hc23006, h⟩ := h
            obtain ⟨hi23007, h⟩ := h
            refine hx_iast E hR hc23006 hi23007 dX7_whom_257 (rfl : 257 + 1 = 258) (fun S23008 H locs e23010 hm23009 hR => ?_)
            have h := h S23008 e23010
            have hm := hp_mono.tr hm hm23009
            have ms50 := hp_mono.tr ms50 hm23009
            refine hp_goto E (tgt := 319) dX7_whom_258 (by decide) ?_
            exact b319 _ _ _ _ _ _ h (lv_sub hl [1, 2, 3, 0] rfl) hR hm ms50
          · have h := h.2 hb
            refine hp_aload_n E hl 0 rfl 1 rfl dX7_whom_261 (rfl : 261 + 1 = 262) ?_
            refine hp_getR E hR in_X7 (hp_mono.c hm hc0) rfl 35 (Nat.le_of_ble_eq_true rfl) rfl q1296 (fun _ h => h) dX7_whom_262 (rfl : 262 + 3 = 265) ?_
            refine hp_iload_n E hl 1 rfl 2 rfl dX7_whom_265 (rfl : 265 + 1 = 266) ?_
            refine hp_aload_n E hl 0 rfl 1 rfl dX7_whom_266 (rfl : 266 + 1 = 267) ?_
            refine hp_getI E hR in_X7 (hp_mono.c hm hc0) rfl 42 (Nat.le_of_ble_eq_true rfl) rfl q1303 (fun _ h => h) dX7_whom_267 (rfl : 267 + 3 = 270) ?_
            obtain ⟨hc23011, h⟩ := h
            obtain ⟨hi23012, h⟩ := h
            refine hx_iast E hR hc23011 hi23012 dX7_whom_270 (rfl : 270 + 1 = 271) (fun S23013 H locs e23015 hm23014 hR => ?_)
            have h := h S23013 e23015
            have hm := hp_mono.tr hm hm23014
            have ms50 := hp_mono.tr ms50 hm23014
            refine hp_aload_n E hl 0 rfl 1 rfl dX7_whom_271 (rfl : 271 + 1 = 272) ?_
            refine hp_getR E hR in_X7 (hp_mono.c hm hc0) rfl 36 (Nat.le_of_ble_eq_true rfl) rfl q1297 (fun _ h => h) dX7_whom_272 (rfl : 272 + 3 = 275) ?_
            refine hp_iload_n E hl 1 rfl 2 rfl dX7_whom_275 (rfl : 275 + 1 = 276) ?_
            refine hp_aload_n E hl 0 rfl 1 rfl dX7_whom_276 (rfl : 276 + 1 = 277) ?_
            refine hp_getI E hR in_X7 (hp_mono.c hm hc0) rfl 43 (Nat.le_of_ble_eq_true rfl) rfl q1304 (fun _ h => h) dX7_whom_277 (rfl : 277 + 3 = 280) ?_
            obtain ⟨hc23016, h⟩ := h
            obtain ⟨hi23017, h⟩ := h
            refine hx_iast E hR hc23016 hi23017 dX7_whom_280 (rfl : 280 + 1 = 281) (fun S23018 H locs e23020 hm23019 hR => ?_)
            have h := h S23018 e23020
            have hm := hp_mono.tr hm hm23019
            have ms50 := hp_mono.tr ms50 hm23019
            refine hp_goto E (tgt := 319) dX7_whom_281 (by decide) ?_
            exact b319 _ _ _ _ _ _ h (lv_sub hl [1, 2, 3, 0] rfl) hR hm ms50
        have b225 : ∀ (v2 : Int32) (v4 : Int32) (S : hp_St) (H : Heap) (locs : List Loc) (ls : Array Slot), wb_X7_whom_225 o a1 v2 v4 S K50 Q → lv_has ls 6 [(0, hp_v B o), (1, .int a1), (2, .int v2), (4, .int v4)] → hp_S B D s0 S H locs → hp_mono Si S → hp_mono Sa50 S → W p l e ({ frames := 5, cells := 0, slots := 0, locals := 320 } : Room) s m args below meth c H locs 0 0 (MQ below (hp_Qi B D s0 (fun r S' => hp_mono Si S' ∧ Q r S')) args s 0 0 (fun q => B < q)) (F0 m 225 ls []) := by
          intro v2 v4 S H locs ls h hl hR hm ms50
          unfold wb_X7_whom_225 at h
          refine hp_iconst E (1 : Int32) (by decide) dX7_whom_225 (rfl : 225 + 1 = 226) ?_
          refine hp_goto E (tgt := 230) dX7_whom_226 (by decide) ?_
          exact b230 _ _ _ _ _ _ _ h hl hR hm ms50
        have b213 : ∀ (v3 : Int32) (v4 : Int32) (t0 : Int32) (S : hp_St) (H : Heap) (locs : List Loc) (ls : Array Slot), wb_X7_whom_213 o a1 v3 v4 t0 S K50 Q → lv_has ls 6 [(0, hp_v B o), (1, .int a1), (3, .int v3), (4, .int v4)] → hp_S B D s0 S H locs → hp_mono Si S → hp_mono Sa50 S → W p l e ({ frames := 5, cells := 0, slots := 0, locals := 320 } : Room) s m args below meth c H locs 0 0 (MQ below (hp_Qi B D s0 (fun r S' => hp_mono Si S' ∧ Q r S')) args s 0 0 (fun q => B < q)) (F0 m 213 ls [.int t0]) := by
          intro v3 v4 t0 S H locs ls h hl hR hm ms50
          unfold wb_X7_whom_213 at h
          refine hp_istore_n E hl 2 rfl (lv' := [(0, hp_v B o), (1, .int a1), (3, .int v3), (4, .int v4)]) dX7_whom_213 (rfl : 213 + 1 = 214) (by decide) rfl (fun ls hl => ?_)
          refine hp_iload_n E hl 3 rfl 3 rfl dX7_whom_214 (rfl : 214 + 1 = 215) ?_
          refine hp_if_ne E dX7_whom_215 (rfl : 215 + 3 = 218) (tgt := 225) (by decide) (fun hb => ?_) (fun hb => ?_)
          · have h := h.1 hb
            refine hp_iload E hl 4 rfl dX7_whom_218 (rfl : 218 + 2 = 220) ?_
            refine hp_bipush E (10 : Int32) (by decide) dX7_whom_220 (rfl : 220 + 2 = 222) ?_
            refine hp_icmp_ne E dX7_whom_222 (rfl : 222 + 3 = 225) (tgt := 229) (by decide) (fun hb => ?_) (fun hb => ?_)
            · have h := h.1 hb
              exact b225 _ _ _ _ _ _ h (lv_sub hl [1, 2, 0, 4] rfl) hR hm ms50
            · have h := h.2 hb
              refine hp_iconst E (0 : Int32) (by decide) dX7_whom_229 (rfl : 229 + 1 = 230) ?_
              exact b230 _ _ _ _ _ _ _ h (lv_sub hl [1, 2, 0, 4] rfl) hR hm ms50
          · have h := h.2 hb
            exact b225 _ _ _ _ _ _ h (lv_sub hl [1, 2, 0, 4] rfl) hR hm ms50
        have b208 : ∀ (v3 : Int32) (v4 : Int32) (S : hp_St) (H : Heap) (locs : List Loc) (ls : Array Slot), wb_X7_whom_208 o a1 v3 v4 S K50 Q → lv_has ls 6 [(0, hp_v B o), (1, .int a1), (3, .int v3), (4, .int v4)] → hp_S B D s0 S H locs → hp_mono Si S → hp_mono Sa50 S → W p l e ({ frames := 5, cells := 0, slots := 0, locals := 320 } : Room) s m args below meth c H locs 0 0 (MQ below (hp_Qi B D s0 (fun r S' => hp_mono Si S' ∧ Q r S')) args s 0 0 (fun q => B < q)) (F0 m 208 ls []) := by
          intro v3 v4 S H locs ls h hl hR hm ms50
          unfold wb_X7_whom_208 at h
          refine hp_iconst E (1 : Int32) (by decide) dX7_whom_208 (rfl : 208 + 1 = 209) ?_
          refine hp_goto E (tgt := 213) dX7_whom_209 (by decide) ?_
          exact b213 _ _ _ _ _ _ _ h hl hR hm ms50
        have b189 : ∀ (v2 : Int32) (v3 : Int32) (v4 : Int32) (t0 : Nat) (t1 : Int32) (S : hp_St) (H : Heap) (locs : List Loc) (ls : Array Slot), wb_X7_whom_189 o a1 v2 v3 v4 t0 t1 S K50 Q → lv_has ls 6 [(0, hp_v B o), (1, .int a1), (2, .int v2), (3, .int v3), (4, .int v4)] → hp_S B D s0 S H locs → hp_mono Si S → hp_mono Sa50 S → W p l e ({ frames := 5, cells := 0, slots := 0, locals := 320 } : Room) s m args below meth c H locs 0 0 (MQ below (hp_Qi B D s0 (fun r S' => hp_mono Si S' ∧ Q r S')) args s 0 0 (fun q => B < q)) (F0 m 189 ls [.int t1, hp_v B t0]) := by
          intro v2 v3 v4 t0 t1 S H locs ls h hl hR hm ms50
          unfold wb_X7_whom_189 at h
          obtain ⟨hc18901, h⟩ := h
          refine hp_fi (hp_rV E hR hl (m_X7_span G _ _ _ _ hc18901 h) hc18901 (ci := 6) rfl rfl q1480 q1482 qs40 q82 q1483 nf_X7_span ⟨Nat.le_of_ble_eq_true rfl, Nat.le_of_ble_eq_true rfl⟩ (rest := []) rfl (Nat.le_of_ble_eq_true rfl) dX7_whom_189 ⟨Nat.le_of_ble_eq_true rfl, Nat.le_of_ble_eq_true rfl⟩) hR (rfl : 189 + 3 = 192) (fun z18902 S18903 H locs hq hR => ?_)
          obtain ⟨hm18904, h⟩ := hq
          have h := h hm18904
          have hm := hp_mono.tr hm hm18904
          have ms50 := hp_mono.tr ms50 hm18904
          refine hp_if_ne E dX7_whom_192 (rfl : 192 + 3 = 195) (tgt := 197) (by decide) (fun hb => ?_) (fun hb => ?_)
          · have h := h.1 hb
            refine hp_iconst E (0 : Int32) (by decide) dX7_whom_195 (rfl : 195 + 1 = 196) ?_
            exact hp_zret E hR (Or.inl rfl) ⟨hm, h⟩ (Nat.le_of_ble_eq_true rfl) (Nat.le_of_ble_eq_true rfl) dX7_whom_196
          · have h := h.2 hb
            refine hp_iload_n E hl 2 rfl 2 rfl dX7_whom_197 (rfl : 197 + 1 = 198) ?_
            refine hp_if_ne E dX7_whom_198 (rfl : 198 + 3 = 201) (tgt := 208) (by decide) (fun hb => ?_) (fun hb => ?_)
            · have h := h.1 hb
              refine hp_iload E hl 4 rfl dX7_whom_201 (rfl : 201 + 2 = 203) ?_
              refine hp_bipush E (8 : Int32) (by decide) dX7_whom_203 (rfl : 203 + 2 = 205) ?_
              refine hp_icmp_ne E dX7_whom_205 (rfl : 205 + 3 = 208) (tgt := 212) (by decide) (fun hb => ?_) (fun hb => ?_)
              · have h := h.1 hb
                exact b208 _ _ _ _ _ _ h (lv_sub hl [0, 1, 3, 4] rfl) hR hm ms50
              · have h := h.2 hb
                refine hp_iconst E (0 : Int32) (by decide) dX7_whom_212 (rfl : 212 + 1 = 213) ?_
                exact b213 _ _ _ _ _ _ _ h (lv_sub hl [0, 1, 3, 4] rfl) hR hm ms50
            · have h := h.2 hb
              exact b208 _ _ _ _ _ _ h (lv_sub hl [0, 1, 3, 4] rfl) hR hm ms50
        have b173 : ∀ (v2 : Int32) (v3 : Int32) (v4 : Int32) (S : hp_St) (H : Heap) (locs : List Loc) (ls : Array Slot), wb_X7_whom_173 o a1 v2 v3 v4 S K50 Q → lv_has ls 6 [(0, hp_v B o), (1, .int a1), (2, .int v2), (3, .int v3), (4, .int v4)] → hp_S B D s0 S H locs → hp_mono Si S → hp_mono Sa50 S → W p l e ({ frames := 5, cells := 0, slots := 0, locals := 320 } : Room) s m args below meth c H locs 0 0 (MQ below (hp_Qi B D s0 (fun r S' => hp_mono Si S' ∧ Q r S')) args s 0 0 (fun q => B < q)) (F0 m 173 ls []) := by
          intro v2 v3 v4 S H locs ls h hl hR hm ms50
          unfold wb_X7_whom_173 at h
          refine hp_aload_n E hl 0 rfl 0 rfl dX7_whom_173 (rfl : 173 + 1 = 174) ?_
          refine hp_iload E hl 4 rfl dX7_whom_174 (rfl : 174 + 2 = 176) ?_
          refine hp_bipush E (8 : Int32) (by decide) dX7_whom_176 (rfl : 176 + 2 = 178) ?_
          refine hp_icmp_ne E dX7_whom_178 (rfl : 178 + 3 = 181) (tgt := 187) (by decide) (fun hb => ?_) (fun hb => ?_)
          · have h := h.1 hb
            refine hp_sipush E (130 : Int32) (by decide) dX7_whom_181 (rfl : 181 + 3 = 184) ?_
            refine hp_goto E (tgt := 189) dX7_whom_184 (by decide) ?_
            exact b189 _ _ _ _ _ _ _ _ _ h hl hR hm ms50
          · have h := h.2 hb
            refine hp_bipush E (79 : Int32) (by decide) dX7_whom_187 (rfl : 187 + 2 = 189) ?_
            exact b189 _ _ _ _ _ _ _ _ _ h hl hR hm ms50
        have b318 : ∀ (v2 : Int32) (v3 : Int32) (t0 : Nat) (t1 : Int32) (t2 : Int32) (S : hp_St) (H : Heap) (locs : List Loc) (ls : Array Slot), wb_X7_whom_318 o a1 v2 v3 t0 t1 t2 S K50 Q → lv_has ls 6 [(0, hp_v B o), (1, .int a1), (2, .int v2), (3, .int v3)] → hp_S B D s0 S H locs → hp_mono Si S → hp_mono Sa50 S → W p l e ({ frames := 5, cells := 0, slots := 0, locals := 320 } : Room) s m args below meth c H locs 0 0 (MQ below (hp_Qi B D s0 (fun r S' => hp_mono Si S' ∧ Q r S')) args s 0 0 (fun q => B < q)) (F0 m 318 ls [.int t2, .int t1, hp_v B t0]) := by
          intro v2 v3 t0 t1 t2 S H locs ls h hl hR hm ms50
          unfold wb_X7_whom_318 at h
          obtain ⟨hc31801, h⟩ := h
          obtain ⟨hi31802, h⟩ := h
          refine hx_iast E hR hc31801 hi31802 dX7_whom_318 (rfl : 318 + 1 = 319) (fun S31803 H locs e31805 hm31804 hR => ?_)
          have h := h S31803 e31805
          have hm := hp_mono.tr hm hm31804
          have ms50 := hp_mono.tr ms50 hm31804
          exact b319 _ _ _ _ _ _ h hl hR hm ms50
        have b142 : ∀ (v2 : Int32) (v3 : Int32) (v4 : Int32) (t0 : Int32) (S : hp_St) (H : Heap) (locs : List Loc) (ls : Array Slot), wb_X7_whom_142 o a1 v2 v3 v4 t0 S K50 Q → lv_has ls 6 [(0, hp_v B o), (1, .int a1), (2, .int v2), (3, .int v3), (4, .int v4)] → hp_S B D s0 S H locs → hp_mono Si S → hp_mono Sa50 S → W p l e ({ frames := 5, cells := 0, slots := 0, locals := 320 } : Room) s m args below meth c H locs 0 0 (MQ below (hp_Qi B D s0 (fun r S' => hp_mono Si S' ∧ Q r S')) args s 0 0 (fun q => B < q)) (F0 m 142 ls [.int t0]) := by
          intro v2 v3 v4 t0 S H locs ls h hl hR hm ms50
          unfold wb_X7_whom_142 at h
          refine hp_istore E hl 5 (lv' := [(0, hp_v B o), (1, .int a1), (2, .int v2), (3, .int v3), (4, .int v4)]) dX7_whom_142 (rfl : 142 + 2 = 144) (by decide) rfl (fun ls hl => ?_)
          refine hp_iload E hl 0 rfl dX7_whom_144 (rfl : 144 + 2 = 146) ?_
          refine hp_if_eq E dX7_whom_146 (rfl : 146 + 3 = 149) (tgt := 155) (by decide) (fun hb => ?_) (fun hb => ?_)
          · have h := h.1 hb
            refine hp_aload_n E hl 0 rfl 1 rfl dX7_whom_155 (rfl : 155 + 1 = 156) ?_
            refine hp_fv (hp_rV E hR hl (m_X7_take G _ _ _ (hp_mono.c hm hc0) h) (hp_mono.c hm hc0) (ci := 6) rfl rfl q1448 q1450 qs32 q82 q1451 nf_X7_take ⟨Nat.le_of_ble_eq_true rfl, Nat.le_of_ble_eq_true rfl⟩ (rest := []) rfl (Nat.le_of_ble_eq_true rfl) dX7_whom_156 ⟨Nat.le_of_ble_eq_true rfl, Nat.le_of_ble_eq_true rfl⟩) hR (rfl : 156 + 3 = 159) (fun S14201 H locs hq hR => ?_)
            obtain ⟨hm14202, h⟩ := hq
            have h := h hm14202
            have hm := hp_mono.tr hm hm14202
            have ms50 := hp_mono.tr ms50 hm14202
            refine hp_iload E hl 5 rfl dX7_whom_159 (rfl : 159 + 2 = 161) ?_
            refine hp_bipush E (8 : Int32) (by decide) dX7_whom_161 (rfl : 161 + 2 = 163) ?_
            refine hp_icmp_eq E dX7_whom_163 (rfl : 163 + 3 = 166) (tgt := 173) (by decide) (fun hb => ?_) (fun hb => ?_)
            · have h := h.1 hb
              exact b173 _ _ _ _ _ _ _ h (lv_sub hl [1, 2, 3, 4, 5] rfl) hR hm ms50
            · have h := h.2 hb
              refine hp_iload E hl 5 rfl dX7_whom_166 (rfl : 166 + 2 = 168) ?_
              refine hp_bipush E (10 : Int32) (by decide) dX7_whom_168 (rfl : 168 + 2 = 170) ?_
              refine hp_icmp_ne E dX7_whom_170 (rfl : 170 + 3 = 173) (tgt := 284) (by decide) (fun hb => ?_) (fun hb => ?_)
              · have h := h.1 hb
                exact b173 _ _ _ _ _ _ _ h (lv_sub hl [1, 2, 3, 4, 5] rfl) hR hm ms50
              · have h := h.2 hb
                refine hp_iload E hl 5 rfl dX7_whom_284 (rfl : 284 + 2 = 286) ?_
                refine hp_bipush E (9 : Int32) (by decide) dX7_whom_286 (rfl : 286 + 2 = 288) ?_
                refine hp_icmp_ne E dX7_whom_288 (rfl : 288 + 3 = 291) (tgt := 301) (by decide) (fun hb => ?_) (fun hb => ?_)
                · have h := h.1 hb
                  refine hp_aload_n E hl 0 rfl 1 rfl dX7_whom_291 (rfl : 291 + 1 = 292) ?_
                  refine hp_iload_n E hl 1 rfl 2 rfl dX7_whom_292 (rfl : 292 + 1 = 293) ?_
                  refine hp_fi (hp_rV E hR hl (m_X7_classRow G _ _ _ _ (hp_mono.c hm hc0) h) (hp_mono.c hm hc0) (ci := 6) rfl rfl q1488 q1490 qs42 q82 q1491 nf_X7_classRow ⟨Nat.le_of_ble_eq_true rfl, Nat.le_of_ble_eq_true rfl⟩ (rest := []) rfl (Nat.le_of_ble_eq_true rfl) dX7_whom_293 ⟨Nat.le_of_ble_eq_true rfl, Nat.le_of_ble_eq_true rfl⟩) hR (rfl : 293 + 3 = 296) (fun z14203 S14204 H locs hq hR => ?_)
                  obtain ⟨hm14205, h⟩ := hq
                  have h := h hm14205
                  have hm := hp_mono.tr hm hm14205
                  have ms50 := hp_mono.tr ms50 hm14205
                  refine hp_if_ne E dX7_whom_296 (rfl : 296 + 3 = 299) (tgt := 319) (by decide) (fun hb => ?_) (fun hb => ?_)
                  · have h := h.1 hb
                    refine hp_iconst E (0 : Int32) (by decide) dX7_whom_299 (rfl : 299 + 1 = 300) ?_
                    exact hp_zret E hR (Or.inl rfl) ⟨hm, h⟩ (Nat.le_of_ble_eq_true rfl) (Nat.le_of_ble_eq_true rfl) dX7_whom_300
                  · have h := h.2 hb
                    exact b319 _ _ _ _ _ _ h (lv_sub hl [1, 2, 3, 4] rfl) hR hm ms50
                · have h := h.2 hb
                  refine hp_aload_n E hl 0 rfl 1 rfl dX7_whom_301 (rfl : 301 + 1 = 302) ?_
                  refine hp_getR E hR in_X7 (hp_mono.c hm hc0) rfl 37 (Nat.le_of_ble_eq_true rfl) rfl q1298 (fun _ h => h) dX7_whom_302 (rfl : 302 + 3 = 305) ?_
                  refine hp_iload_n E hl 1 rfl 2 rfl dX7_whom_305 (rfl : 305 + 1 = 306) ?_
                  refine hp_iload E hl 5 rfl dX7_whom_306 (rfl : 306 + 2 = 308) ?_
                  refine hp_bipush E (11 : Int32) (by decide) dX7_whom_308 (rfl : 308 + 2 = 310) ?_
                  refine hp_icmp_ne E dX7_whom_310 (rfl : 310 + 3 = 313) (tgt := 317) (by decide) (fun hb => ?_) (fun hb => ?_)
                  · have h := h.1 hb
                    refine hp_iconst E (1 : Int32) (by decide) dX7_whom_313 (rfl : 313 + 1 = 314) ?_
                    refine hp_goto E (tgt := 318) dX7_whom_314 (by decide) ?_
                    exact b318 _ _ _ _ _ _ _ _ _ h (lv_sub hl [1, 2, 3, 4] rfl) hR hm ms50
                  · have h := h.2 hb
                    refine hp_iconst E (2 : Int32) (by decide) dX7_whom_317 (rfl : 317 + 1 = 318) ?_
                    exact b318 _ _ _ _ _ _ _ _ _ h (lv_sub hl [1, 2, 3, 4] rfl) hR hm ms50
          · have h := h.2 hb
            refine hp_aload_n E hl 0 rfl 1 rfl dX7_whom_149 (rfl : 149 + 1 = 150) ?_
            refine hp_iconst E (3 : Int32) (by decide) dX7_whom_150 (rfl : 150 + 1 = 151) ?_
            refine hp_fi (hp_rV E hR hl (m_X7_wrong G _ _ _ _ (hp_mono.c hm hc0) h) (hp_mono.c hm hc0) (ci := 6) rfl rfl q1464 q1466 qs36 q82 q1467 nf_X7_wrong ⟨Nat.le_of_ble_eq_true rfl, Nat.le_of_ble_eq_true rfl⟩ (rest := []) rfl (Nat.le_of_ble_eq_true rfl) dX7_whom_151 ⟨Nat.le_of_ble_eq_true rfl, Nat.le_of_ble_eq_true rfl⟩) hR (rfl : 151 + 3 = 154) (fun z14206 S14207 H locs hq hR => ?_)
            obtain ⟨hm14208, h⟩ := hq
            have h := h hm14208
            have hm := hp_mono.tr hm hm14208
            have ms50 := hp_mono.tr ms50 hm14208
            obtain ⟨hz14209, h⟩ := h
            exact hp_zret E hR hz14209 ⟨hm, h⟩ (Nat.le_of_ble_eq_true rfl) (Nat.le_of_ble_eq_true rfl) dX7_whom_154
        unfold wb_X7_whom_50 at h
        refine hp_aload_n E hl 0 rfl 0 rfl dX7_whom_50 (rfl : 50 + 1 = 51) ?_
        refine hp_getI E hR in_X7 (hp_mono.c hm hc0) rfl 27 (Nat.le_of_ble_eq_true rfl) rfl q1288 (fun _ h => h) dX7_whom_51 (rfl : 51 + 3 = 54) ?_
        refine hp_iconst E (1 : Int32) (by decide) dX7_whom_54 (rfl : 54 + 1 = 55) ?_
        refine hp_icmp_ne E dX7_whom_55 (rfl : 55 + 3 = 58) (tgt := 322) (by decide) (fun hb => ?_) (fun hb => ?_)
        · have h := h.1 hb
          refine hp_aload_n E hl 0 rfl 0 rfl dX7_whom_58 (rfl : 58 + 1 = 59) ?_
          refine hp_getI E hR in_X7 (hp_mono.c hm hc0) rfl 28 (Nat.le_of_ble_eq_true rfl) rfl q1289 (fun _ h => h) dX7_whom_59 (rfl : 59 + 3 = 62) ?_
          refine hp_bipush E (8 : Int32) (by decide) dX7_whom_62 (rfl : 62 + 2 = 64) ?_
          refine hp_icmp_lt E dX7_whom_64 (rfl : 64 + 3 = 67) (tgt := 322) (by decide) (fun hb => ?_) (fun hb => ?_)
          · have h := h.1 hb
            exact b322 _ _ _ _ h (lv_sub hl [0, 1] rfl) hR hm
          · have h := h.2 hb
            refine hp_aload_n E hl 0 rfl 0 rfl dX7_whom_67 (rfl : 67 + 1 = 68) ?_
            refine hp_getI E hR in_X7 (hp_mono.c hm hc0) rfl 28 (Nat.le_of_ble_eq_true rfl) rfl q1289 (fun _ h => h) dX7_whom_68 (rfl : 68 + 3 = 71) ?_
            refine hp_bipush E (12 : Int32) (by decide) dX7_whom_71 (rfl : 71 + 2 = 73) ?_
            refine hp_icmp_gt E dX7_whom_73 (rfl : 73 + 3 = 76) (tgt := 322) (by decide) (fun hb => ?_) (fun hb => ?_)
            · have h := h.1 hb
              refine hp_aload_n E hl 0 rfl 0 rfl dX7_whom_76 (rfl : 76 + 1 = 77) ?_
              refine hp_getI E hR in_X7 (hp_mono.c hm hc0) rfl 28 (Nat.le_of_ble_eq_true rfl) rfl q1289 (fun _ h => h) dX7_whom_77 (rfl : 77 + 3 = 80) ?_
              refine hp_istore E hl 4 (lv' := [(0, hp_v B o), (1, .int a1), (2, .int v2), (3, .int v3)]) dX7_whom_80 (rfl : 80 + 2 = 82) (by decide) rfl (fun ls hl => ?_)
              refine hp_iload E hl 0 rfl dX7_whom_82 (rfl : 82 + 2 = 84) ?_
              refine hp_bipush E (8 : Int32) (by decide) dX7_whom_84 (rfl : 84 + 2 = 86) ?_
              refine hp_icmp_ne E dX7_whom_86 (rfl : 86 + 3 = 89) (tgt := 93) (by decide) (fun hb => ?_) (fun hb => ?_)
              · have h := h.1 hb
                refine hp_iload_n E hl 2 rfl 3 rfl dX7_whom_89 (rfl : 89 + 1 = 90) ?_
                refine hp_goto E (tgt := 142) dX7_whom_90 (by decide) ?_
                exact b142 _ _ _ _ _ _ _ _ h (lv_sub hl [1, 2, 3, 4, 0] rfl) hR hm ms50
              · have h := h.2 hb
                refine hp_iload E hl 0 rfl dX7_whom_93 (rfl : 93 + 2 = 95) ?_
                refine hp_bipush E (9 : Int32) (by decide) dX7_whom_95 (rfl : 95 + 2 = 97) ?_
                refine hp_icmp_ne E dX7_whom_97 (rfl : 97 + 3 = 100) (tgt := 117) (by decide) (fun hb => ?_) (fun hb => ?_)
                · have h := h.1 hb
                  refine hp_aload_n E hl 0 rfl 1 rfl dX7_whom_100 (rfl : 100 + 1 = 101) ?_
                  refine hp_getR E hR in_X7 (hp_mono.c hm hc0) rfl 34 (Nat.le_of_ble_eq_true rfl) rfl q1295 (fun _ h => h) dX7_whom_101 (rfl : 101 + 3 = 104) ?_
                  refine hp_iload_n E hl 1 rfl 2 rfl dX7_whom_104 (rfl : 104 + 1 = 105) ?_
                  obtain ⟨hc5001, h⟩ := h
                  obtain ⟨hi5002, h⟩ := h
                  refine hp_iald E hR hc5001 hi5002 dX7_whom_105 (rfl : 105 + 1 = 106) ?_
                  refine hp_if_le E dX7_whom_106 (rfl : 106 + 3 = 109) (tgt := 113) (by decide) (fun hb => ?_) (fun hb => ?_)
                  · have h := h.1 hb
                    refine hp_iconst E (0 : Int32) (by decide) dX7_whom_113 (rfl : 113 + 1 = 114) ?_
                    refine hp_goto E (tgt := 142) dX7_whom_114 (by decide) ?_
                    exact b142 _ _ _ _ _ _ _ _ h (lv_sub hl [1, 2, 3, 4, 0] rfl) hR hm ms50
                  · have h := h.2 hb
                    refine hp_iconst E (1 : Int32) (by decide) dX7_whom_109 (rfl : 109 + 1 = 110) ?_
                    refine hp_goto E (tgt := 142) dX7_whom_110 (by decide) ?_
                    exact b142 _ _ _ _ _ _ _ _ h (lv_sub hl [1, 2, 3, 4, 0] rfl) hR hm ms50
                · have h := h.2 hb
                  refine hp_iload E hl 0 rfl dX7_whom_117 (rfl : 117 + 2 = 119) ?_
                  refine hp_bipush E (10 : Int32) (by decide) dX7_whom_119 (rfl : 119 + 2 = 121) ?_
                  refine hp_icmp_ne E dX7_whom_121 (rfl : 121 + 3 = 124) (tgt := 128) (by decide) (fun hb => ?_) (fun hb => ?_)
                  · have h := h.1 hb
                    refine hp_iload_n E hl 3 rfl 4 rfl dX7_whom_124 (rfl : 124 + 1 = 125) ?_
                    refine hp_goto E (tgt := 142) dX7_whom_125 (by decide) ?_
                    exact b142 _ _ _ _ _ _ _ _ h (lv_sub hl [1, 2, 3, 4, 0] rfl) hR hm ms50
                  · have h := h.2 hb
                    refine hp_aload_n E hl 0 rfl 1 rfl dX7_whom_128 (rfl : 128 + 1 = 129) ?_
                    refine hp_getR E hR in_X7 (hp_mono.c hm hc0) rfl 37 (Nat.le_of_ble_eq_true rfl) rfl q1298 (fun _ h => h) dX7_whom_129 (rfl : 129 + 3 = 132) ?_
                    refine hp_iload_n E hl 1 rfl 2 rfl dX7_whom_132 (rfl : 132 + 1 = 133) ?_
                    obtain ⟨hc5003, h⟩ := h
                    obtain ⟨hi5004, h⟩ := h
                    refine hp_iald E hR hc5003 hi5004 dX7_whom_133 (rfl : 133 + 1 = 134) ?_
                    refine hp_if_le E dX7_whom_134 (rfl : 134 + 3 = 137) (tgt := 141) (by decide) (fun hb => ?_) (fun hb => ?_)
                    · have h := h.1 hb
                      refine hp_iconst E (0 : Int32) (by decide) dX7_whom_141 (rfl : 141 + 1 = 142) ?_
                      exact b142 _ _ _ _ _ _ _ _ h (lv_sub hl [1, 2, 3, 4, 0] rfl) hR hm ms50
                    · have h := h.2 hb
                      refine hp_iconst E (1 : Int32) (by decide) dX7_whom_137 (rfl : 137 + 1 = 138) ?_
                      refine hp_goto E (tgt := 142) dX7_whom_138 (by decide) ?_
                      exact b142 _ _ _ _ _ _ _ _ h (lv_sub hl [1, 2, 3, 4, 0] rfl) hR hm ms50
            · have h := h.2 hb
              exact b322 _ _ _ _ h (lv_sub hl [0, 1] rfl) hR hm
        · have h := h.2 hb
          exact b322 _ _ _ _ h (lv_sub hl [0, 1] rfl) hR hm
    exact key50 (μ50 v2 v3 Sa50 + 1) v2 v3 _ H locs ls (Nat.lt_succ_self _) hI hl hR hp_mono.rf
  unfold wp_X7_whom at h
  refine hp_iconst E (0 : Int32) (by decide) dX7_whom_0 (rfl : 0 + 1 = 1) ?_
  refine hp_istore_n E hl 2 rfl (lv' := [(0, hp_v B o), (1, .int a1)]) dX7_whom_1 (rfl : 1 + 1 = 2) (by decide) rfl (fun ls hl => ?_)
  refine hp_iconst E (0 : Int32) (by decide) dX7_whom_2 (rfl : 2 + 1 = 3) ?_
  refine hp_istore_n E hl 3 rfl (lv' := [(2, .int (0 : Int32)), (0, hp_v B o), (1, .int a1)]) dX7_whom_3 (rfl : 3 + 1 = 4) (by decide) rfl (fun ls hl => ?_)
  refine hp_aload_n E hl 0 rfl 2 rfl dX7_whom_4 (rfl : 4 + 1 = 5) ?_
  refine hp_getR E hR in_X7 hc0 rfl 32 (Nat.le_of_ble_eq_true rfl) rfl q1293 (fun _ h => h) dX7_whom_5 (rfl : 5 + 3 = 8) ?_
  refine hp_iload_n E hl 1 rfl 3 rfl dX7_whom_8 (rfl : 8 + 1 = 9) ?_
  refine hp_iconst E (0 : Int32) (by decide) dX7_whom_9 (rfl : 9 + 1 = 10) ?_
  obtain ⟨hc1, h⟩ := h
  obtain ⟨hi2, h⟩ := h
  refine hx_iast E hR hc1 hi2 dX7_whom_10 (rfl : 10 + 1 = 11) (fun S3 H locs e5 hm4 hR => ?_)
  have h := h S3 e5
  have hm := hp_mono.tr hm hm4
  refine hp_aload_n E hl 0 rfl 2 rfl dX7_whom_11 (rfl : 11 + 1 = 12) ?_
  refine hp_getR E hR in_X7 (hp_mono.c hm hc0) rfl 33 (Nat.le_of_ble_eq_true rfl) rfl q1294 (fun _ h => h) dX7_whom_12 (rfl : 12 + 3 = 15) ?_
  refine hp_iload_n E hl 1 rfl 3 rfl dX7_whom_15 (rfl : 15 + 1 = 16) ?_
  refine hp_sipush E (1000 : Int32) (by decide) dX7_whom_16 (rfl : 16 + 3 = 19) ?_
  obtain ⟨hc6, h⟩ := h
  obtain ⟨hi7, h⟩ := h
  refine hx_iast E hR hc6 hi7 dX7_whom_19 (rfl : 19 + 1 = 20) (fun S8 H locs e10 hm9 hR => ?_)
  have h := h S8 e10
  have hm := hp_mono.tr hm hm9
  refine hp_aload_n E hl 0 rfl 2 rfl dX7_whom_20 (rfl : 20 + 1 = 21) ?_
  refine hp_getR E hR in_X7 (hp_mono.c hm hc0) rfl 34 (Nat.le_of_ble_eq_true rfl) rfl q1295 (fun _ h => h) dX7_whom_21 (rfl : 21 + 3 = 24) ?_
  refine hp_iload_n E hl 1 rfl 3 rfl dX7_whom_24 (rfl : 24 + 1 = 25) ?_
  refine hp_iconst E (0 : Int32) (by decide) dX7_whom_25 (rfl : 25 + 1 = 26) ?_
  obtain ⟨hc11, h⟩ := h
  obtain ⟨hi12, h⟩ := h
  refine hx_iast E hR hc11 hi12 dX7_whom_26 (rfl : 26 + 1 = 27) (fun S13 H locs e15 hm14 hR => ?_)
  have h := h S13 e15
  have hm := hp_mono.tr hm hm14
  refine hp_aload_n E hl 0 rfl 2 rfl dX7_whom_27 (rfl : 27 + 1 = 28) ?_
  refine hp_getR E hR in_X7 (hp_mono.c hm hc0) rfl 35 (Nat.le_of_ble_eq_true rfl) rfl q1296 (fun _ h => h) dX7_whom_28 (rfl : 28 + 3 = 31) ?_
  refine hp_iload_n E hl 1 rfl 3 rfl dX7_whom_31 (rfl : 31 + 1 = 32) ?_
  refine hp_iconst E (0 : Int32) (by decide) dX7_whom_32 (rfl : 32 + 1 = 33) ?_
  obtain ⟨hc16, h⟩ := h
  obtain ⟨hi17, h⟩ := h
  refine hx_iast E hR hc16 hi17 dX7_whom_33 (rfl : 33 + 1 = 34) (fun S18 H locs e20 hm19 hR => ?_)
  have h := h S18 e20
  have hm := hp_mono.tr hm hm19
  refine hp_aload_n E hl 0 rfl 2 rfl dX7_whom_34 (rfl : 34 + 1 = 35) ?_
  refine hp_getR E hR in_X7 (hp_mono.c hm hc0) rfl 36 (Nat.le_of_ble_eq_true rfl) rfl q1297 (fun _ h => h) dX7_whom_35 (rfl : 35 + 3 = 38) ?_
  refine hp_iload_n E hl 1 rfl 3 rfl dX7_whom_38 (rfl : 38 + 1 = 39) ?_
  refine hp_sipush E (1000 : Int32) (by decide) dX7_whom_39 (rfl : 39 + 3 = 42) ?_
  obtain ⟨hc21, h⟩ := h
  obtain ⟨hi22, h⟩ := h
  refine hx_iast E hR hc21 hi22 dX7_whom_42 (rfl : 42 + 1 = 43) (fun S23 H locs e25 hm24 hR => ?_)
  have h := h S23 e25
  have hm := hp_mono.tr hm hm24
  refine hp_aload_n E hl 0 rfl 2 rfl dX7_whom_43 (rfl : 43 + 1 = 44) ?_
  refine hp_getR E hR in_X7 (hp_mono.c hm hc0) rfl 37 (Nat.le_of_ble_eq_true rfl) rfl q1298 (fun _ h => h) dX7_whom_44 (rfl : 44 + 3 = 47) ?_
  refine hp_iload_n E hl 1 rfl 3 rfl dX7_whom_47 (rfl : 47 + 1 = 48) ?_
  refine hp_iconst E (0 : Int32) (by decide) dX7_whom_48 (rfl : 48 + 1 = 49) ?_
  obtain ⟨hc26, h⟩ := h
  obtain ⟨hi27, h⟩ := h
  refine hx_iast E hR hc26 hi27 dX7_whom_49 (rfl : 49 + 1 = 50) (fun S28 H locs e30 hm29 hR => ?_)
  have h := h S28 e30
  have hm := hp_mono.tr hm hm29
  exact b50 _ _ _ _ _ _ h (lv_sub hl [2, 3, 1, 0] rfl) hR hm
def wb_X7_ofWhom_93 (o : Nat) (a1 : Int32) (v2 : Int32) (S : hp_St) (Q : Int32 → hp_St → Prop) : Prop := wp_X7_whom o v2 S (fun z9301 S9302 => hp_mono S S9302 → (((z9301 = 0) → Q (0 : Int32) S9302) ∧ ((¬ (z9301 = 0)) → (∀ S9304, S9304 = st_pI S9302 o 39 ((st_I S9302 o 39) + (1 : Int32)) → Q (1 : Int32) S9304))))
def wb_X7_ofWhom_71 (o : Nat) (a1 : Int32) (v2 : Int32) (t0 : Nat) (t1 : Int32) (t2 : Int32) (S : hp_St) (Q : Int32 → hp_St → Prop) : Prop := (st_C S t0 = 7) ∧ wp_X7_isNumber t0 t1 t2 S (fun z7102 S7103 => hp_mono S S7103 → (((z7102 = 0) → Q (0 : Int32) S7103) ∧ ((¬ (z7102 = 0)) → (st_C S7103 (st_R S7103 o 31) = 50) ∧ (vp_in v2 (st_L S7103 (st_R S7103 o 31))) ∧ (∀ S7107, S7107 = st_pI S7103 (st_R S7103 o 31) v2.toNatClampNeg (st_I S7103 o 28) → wp_X7_take o S7107 (fun S7110 => hp_mono S7107 S7110 → wb_X7_ofWhom_93 o a1 v2 S7110 Q)))))
def wb_X7_ofWhom_57 (o : Nat) (a1 : Int32) (v2 : Int32) (t0 : Nat) (t1 : Int32) (S : hp_St) (Q : Int32 → hp_St → Prop) : Prop := (((a1 = (2 : Int32)) → wb_X7_ofWhom_71 o a1 v2 t0 t1 (9999 : Int32) S Q) ∧ ((¬ (a1 = (2 : Int32))) → wb_X7_ofWhom_71 o a1 v2 t0 t1 (200 : Int32) S Q))
def wp_X7_ofWhom (o : Nat) (a1 : Int32) (S : hp_St) (Q : Int32 → hp_St → Prop) : Prop := ((((st_I S o 39) = (24 : Int32)) → wp_X7_wrong o (2 : Int32) S (fun z1 S2 => hp_mono S S2 → (z1 = 0 ∨ z1 = 1) ∧ Q z1 S2)) ∧ ((¬ ((st_I S o 39) = (24 : Int32))) → (st_C S (st_R S o 30) = 50) ∧ (vp_in ((24 : Int32) + (st_I S o 39)) (st_L S (st_R S o 30))) ∧ (∀ S7, S7 = st_pI S (st_R S o 30) ((24 : Int32) + (st_I S o 39)).toNatClampNeg a1 → (st_C S7 (st_R S7 o 31) = 50) ∧ (vp_in ((24 : Int32) + (st_I S o 39)) (st_L S7 (st_R S7 o 31))) ∧ (∀ S12, S12 = st_pI S7 (st_R S7 o 31) ((24 : Int32) + (st_I S o 39)).toNatClampNeg (0 : Int32) → wp_X7_take o S12 (fun S15 => hp_mono S12 S15 → (((a1 ≤ (1 : Int32)) → wb_X7_ofWhom_93 o a1 ((24 : Int32) + (st_I S o 39)) S15 Q) ∧ ((¬ (a1 ≤ (1 : Int32))) → (((a1 = (2 : Int32)) → wb_X7_ofWhom_57 o a1 ((24 : Int32) + (st_I S o 39)) o (1 : Int32) S15 Q) ∧ ((¬ (a1 = (2 : Int32))) → wb_X7_ofWhom_57 o a1 ((24 : Int32) + (st_I S o 39)) o (0 : Int32) S15 Q)))))))))
theorem nf_X7_ofWhom : hp_nf yX7_ofWhom 1 = true := by decide +kernel
set_option maxHeartbeats 4000000 in
theorem m_X7_ofWhom {l : Launch} {B : Nat} {D : va_G} {s0 : State} {b0 : Nat} (G : hp_G l B D s0 b0) (o : Nat) (a1 : Int32) (Si : hp_St) (Q : Int32 → hp_St → Prop) (hc0 : st_C Si o = 7) (h : wp_X7_ofWhom o a1 Si Q) : hp_M l B D s0 yX7_ofWhom cX7_ofWhom 3 (some .boolean) 6 384 0 0 [hp_v B o, .int a1] Si (hp_Qi B D s0 (fun r S' => hp_mono Si S' ∧ Q r S')) := by
  refine hp_start G (by decide +kernel) rfl rfl (lv := [(0, hp_v B o), (1, .int a1)]) (by simp [lg_sl, hp_vc, hp_ci, hp_cj]) (by simp [lv_args, hp_vc, hp_ci, hp_cj]) ?_
  intro p e s m args below meth c E ls hl hR
  have hm : hp_mono Si Si := hp_mono.rf
  generalize hH : s.heap = H at hR ⊢
  generalize hLo : ([] : List Loc) = locs at hR ⊢
  have b93 : ∀ (v2 : Int32) (S : hp_St) (H : Heap) (locs : List Loc) (ls : Array Slot), wb_X7_ofWhom_93 o a1 v2 S Q → lv_has ls 3 [(0, hp_v B o), (2, .int v2)] → hp_S B D s0 S H locs → hp_mono Si S → W p l e ({ frames := 6, cells := 0, slots := 0, locals := 384 } : Room) s m args below meth c H locs 0 0 (MQ below (hp_Qi B D s0 (fun r S' => hp_mono Si S' ∧ Q r S')) args s 0 0 (fun q => B < q)) (F0 m 93 ls []) := by
    intro v2 S H locs ls h hl hR hm
    unfold wb_X7_ofWhom_93 at h
    refine hp_aload_n E hl 0 rfl 0 rfl dX7_ofWhom_93 (rfl : 93 + 1 = 94) ?_
    refine hp_iload_n E hl 2 rfl 1 rfl dX7_ofWhom_94 (rfl : 94 + 1 = 95) ?_
    refine hp_fi (hp_rV E hR hl (m_X7_whom G _ _ _ _ (hp_mono.c hm hc0) h) (hp_mono.c hm hc0) (ci := 6) rfl rfl q1476 q1478 qs39 q82 q1479 nf_X7_whom ⟨Nat.le_of_ble_eq_true rfl, Nat.le_of_ble_eq_true rfl⟩ (rest := []) rfl (Nat.le_of_ble_eq_true rfl) dX7_ofWhom_95 ⟨Nat.le_of_ble_eq_true rfl, Nat.le_of_ble_eq_true rfl⟩) hR (rfl : 95 + 3 = 98) (fun z9301 S9302 H locs hq hR => ?_)
    obtain ⟨hm9303, h⟩ := hq
    have h := h hm9303
    have hm := hp_mono.tr hm hm9303
    refine hp_if_ne E dX7_ofWhom_98 (rfl : 98 + 3 = 101) (tgt := 103) (by decide) (fun hb => ?_) (fun hb => ?_)
    · have h := h.1 hb
      refine hp_iconst E (0 : Int32) (by decide) dX7_ofWhom_101 (rfl : 101 + 1 = 102) ?_
      exact hp_zret E hR (Or.inl rfl) ⟨hm, h⟩ (Nat.le_of_ble_eq_true rfl) (Nat.le_of_ble_eq_true rfl) dX7_ofWhom_102
    · have h := h.2 hb
      refine hp_aload_n E hl 0 rfl 0 rfl dX7_ofWhom_103 (rfl : 103 + 1 = 104) ?_
      refine hp_dup E hp_vc dX7_ofWhom_104 (rfl : 104 + 1 = 105) ?_
      refine hp_getI E hR in_X7 (hp_mono.c hm hc0) rfl 39 (Nat.le_of_ble_eq_true rfl) rfl q1300 (fun _ h => h) dX7_ofWhom_105 (rfl : 105 + 3 = 108) ?_
      refine hp_iconst E (1 : Int32) (by decide) dX7_ofWhom_108 (rfl : 108 + 1 = 109) ?_
      refine hp_iadd E dX7_ofWhom_109 (rfl : 109 + 1 = 110) ?_
      refine hx_putI E hR in_X7 tyX7 tyX7_ok nmX7 (hp_mono.c hm hc0) rfl 39 (Nat.le_of_ble_eq_true rfl) rfl q1300 (fun _ h => h) (Or.inl rfl) (Or.inl rfl) dX7_ofWhom_110 (rfl : 110 + 3 = 113) (fun S9304 H locs e9306 hm9305 hR => ?_)
      have h := h S9304 e9306
      have hm := hp_mono.tr hm hm9305
      refine hp_iconst E (1 : Int32) (by decide) dX7_ofWhom_113 (rfl : 113 + 1 = 114) ?_
      exact hp_zret E hR (Or.inr rfl) ⟨hm, h⟩ (Nat.le_of_ble_eq_true rfl) (Nat.le_of_ble_eq_true rfl) dX7_ofWhom_114
  have b71 : ∀ (v2 : Int32) (t0 : Nat) (t1 : Int32) (t2 : Int32) (S : hp_St) (H : Heap) (locs : List Loc) (ls : Array Slot), wb_X7_ofWhom_71 o a1 v2 t0 t1 t2 S Q → lv_has ls 3 [(0, hp_v B o), (2, .int v2)] → hp_S B D s0 S H locs → hp_mono Si S → W p l e ({ frames := 6, cells := 0, slots := 0, locals := 384 } : Room) s m args below meth c H locs 0 0 (MQ below (hp_Qi B D s0 (fun r S' => hp_mono Si S' ∧ Q r S')) args s 0 0 (fun q => B < q)) (F0 m 71 ls [.int t2, .int t1, hp_v B t0]) := by
    intro v2 t0 t1 t2 S H locs ls h hl hR hm
    unfold wb_X7_ofWhom_71 at h
    obtain ⟨hc7101, h⟩ := h
    refine hp_fi (hp_rV E hR hl (m_X7_isNumber G _ _ _ _ _ hc7101 h) hc7101 (ci := 6) rfl rfl q1472 q1474 qs38 q82 q1475 nf_X7_isNumber ⟨Nat.le_of_ble_eq_true rfl, Nat.le_of_ble_eq_true rfl⟩ (rest := []) rfl (Nat.le_of_ble_eq_true rfl) dX7_ofWhom_71 ⟨Nat.le_of_ble_eq_true rfl, Nat.le_of_ble_eq_true rfl⟩) hR (rfl : 71 + 3 = 74) (fun z7102 S7103 H locs hq hR => ?_)
    obtain ⟨hm7104, h⟩ := hq
    have h := h hm7104
    have hm := hp_mono.tr hm hm7104
    refine hp_if_ne E dX7_ofWhom_74 (rfl : 74 + 3 = 77) (tgt := 79) (by decide) (fun hb => ?_) (fun hb => ?_)
    · have h := h.1 hb
      refine hp_iconst E (0 : Int32) (by decide) dX7_ofWhom_77 (rfl : 77 + 1 = 78) ?_
      exact hp_zret E hR (Or.inl rfl) ⟨hm, h⟩ (Nat.le_of_ble_eq_true rfl) (Nat.le_of_ble_eq_true rfl) dX7_ofWhom_78
    · have h := h.2 hb
      refine hp_aload_n E hl 0 rfl 0 rfl dX7_ofWhom_79 (rfl : 79 + 1 = 80) ?_
      refine hp_getR E hR in_X7 (hp_mono.c hm hc0) rfl 31 (Nat.le_of_ble_eq_true rfl) rfl q1292 (fun _ h => h) dX7_ofWhom_80 (rfl : 80 + 3 = 83) ?_
      refine hp_iload_n E hl 2 rfl 1 rfl dX7_ofWhom_83 (rfl : 83 + 1 = 84) ?_
      refine hp_aload_n E hl 0 rfl 0 rfl dX7_ofWhom_84 (rfl : 84 + 1 = 85) ?_
      refine hp_getI E hR in_X7 (hp_mono.c hm hc0) rfl 28 (Nat.le_of_ble_eq_true rfl) rfl q1289 (fun _ h => h) dX7_ofWhom_85 (rfl : 85 + 3 = 88) ?_
      obtain ⟨hc7105, h⟩ := h
      obtain ⟨hi7106, h⟩ := h
      refine hx_iast E hR hc7105 hi7106 dX7_ofWhom_88 (rfl : 88 + 1 = 89) (fun S7107 H locs e7109 hm7108 hR => ?_)
      have h := h S7107 e7109
      have hm := hp_mono.tr hm hm7108
      refine hp_aload_n E hl 0 rfl 0 rfl dX7_ofWhom_89 (rfl : 89 + 1 = 90) ?_
      refine hp_fv (hp_rV E hR hl (m_X7_take G _ _ _ (hp_mono.c hm hc0) h) (hp_mono.c hm hc0) (ci := 6) rfl rfl q1448 q1450 qs32 q82 q1451 nf_X7_take ⟨Nat.le_of_ble_eq_true rfl, Nat.le_of_ble_eq_true rfl⟩ (rest := []) rfl (Nat.le_of_ble_eq_true rfl) dX7_ofWhom_90 ⟨Nat.le_of_ble_eq_true rfl, Nat.le_of_ble_eq_true rfl⟩) hR (rfl : 90 + 3 = 93) (fun S7110 H locs hq hR => ?_)
      obtain ⟨hm7111, h⟩ := hq
      have h := h hm7111
      have hm := hp_mono.tr hm hm7111
      exact b93 _ _ _ _ _ h hl hR hm
  have b57 : ∀ (v2 : Int32) (t0 : Nat) (t1 : Int32) (S : hp_St) (H : Heap) (locs : List Loc) (ls : Array Slot), wb_X7_ofWhom_57 o a1 v2 t0 t1 S Q → lv_has ls 3 [(0, hp_v B o), (1, .int a1), (2, .int v2)] → hp_S B D s0 S H locs → hp_mono Si S → W p l e ({ frames := 6, cells := 0, slots := 0, locals := 384 } : Room) s m args below meth c H locs 0 0 (MQ below (hp_Qi B D s0 (fun r S' => hp_mono Si S' ∧ Q r S')) args s 0 0 (fun q => B < q)) (F0 m 57 ls [.int t1, hp_v B t0]) := by
    intro v2 t0 t1 S H locs ls h hl hR hm
    unfold wb_X7_ofWhom_57 at h
    refine hp_iload_n E hl 1 rfl 1 rfl dX7_ofWhom_57 (rfl : 57 + 1 = 58) ?_
    refine hp_iconst E (2 : Int32) (by decide) dX7_ofWhom_58 (rfl : 58 + 1 = 59) ?_
    refine hp_icmp_ne E dX7_ofWhom_59 (rfl : 59 + 3 = 62) (tgt := 68) (by decide) (fun hb => ?_) (fun hb => ?_)
    · have h := h.1 hb
      refine hp_sipush E (9999 : Int32) (by decide) dX7_ofWhom_62 (rfl : 62 + 3 = 65) ?_
      refine hp_goto E (tgt := 71) dX7_ofWhom_65 (by decide) ?_
      exact b71 _ _ _ _ _ _ _ _ h (lv_sub hl [0, 2] rfl) hR hm
    · have h := h.2 hb
      refine hp_sipush E (200 : Int32) (by decide) dX7_ofWhom_68 (rfl : 68 + 3 = 71) ?_
      exact b71 _ _ _ _ _ _ _ _ h (lv_sub hl [0, 2] rfl) hR hm
  unfold wp_X7_ofWhom at h
  refine hp_aload_n E hl 0 rfl 0 rfl dX7_ofWhom_0 (rfl : 0 + 1 = 1) ?_
  refine hp_getI E hR in_X7 hc0 rfl 39 (Nat.le_of_ble_eq_true rfl) rfl q1300 (fun _ h => h) dX7_ofWhom_1 (rfl : 1 + 3 = 4) ?_
  refine hp_bipush E (24 : Int32) (by decide) dX7_ofWhom_4 (rfl : 4 + 2 = 6) ?_
  refine hp_icmp_ne E dX7_ofWhom_6 (rfl : 6 + 3 = 9) (tgt := 15) (by decide) (fun hb => ?_) (fun hb => ?_)
  · have h := h.1 hb
    refine hp_aload_n E hl 0 rfl 0 rfl dX7_ofWhom_9 (rfl : 9 + 1 = 10) ?_
    refine hp_iconst E (2 : Int32) (by decide) dX7_ofWhom_10 (rfl : 10 + 1 = 11) ?_
    refine hp_fi (hp_rV E hR hl (m_X7_wrong G _ _ _ _ hc0 h) hc0 (ci := 6) rfl rfl q1464 q1466 qs36 q82 q1467 nf_X7_wrong ⟨Nat.le_of_ble_eq_true rfl, Nat.le_of_ble_eq_true rfl⟩ (rest := []) rfl (Nat.le_of_ble_eq_true rfl) dX7_ofWhom_11 ⟨Nat.le_of_ble_eq_true rfl, Nat.le_of_ble_eq_true rfl⟩) hR (rfl : 11 + 3 = 14) (fun z1 S2 H locs hq hR => ?_)
    obtain ⟨hm3, h⟩ := hq
    have h := h hm3
    have hm := hp_mono.tr hm hm3
    obtain ⟨hz4, h⟩ := h
    exact hp_zret E hR hz4 ⟨hm, h⟩ (Nat.le_of_ble_eq_true rfl) (Nat.le_of_ble_eq_true rfl) dX7_ofWhom_14
  · have h := h.2 hb
    refine hp_bipush E (24 : Int32) (by decide) dX7_ofWhom_15 (rfl : 15 + 2 = 17) ?_
    refine hp_aload_n E hl 0 rfl 0 rfl dX7_ofWhom_17 (rfl : 17 + 1 = 18) ?_
    refine hp_getI E hR in_X7 hc0 rfl 39 (Nat.le_of_ble_eq_true rfl) rfl q1300 (fun _ h => h) dX7_ofWhom_18 (rfl : 18 + 3 = 21) ?_
    refine hp_iadd E dX7_ofWhom_21 (rfl : 21 + 1 = 22) ?_
    refine hp_istore_n E hl 2 rfl (lv' := [(0, hp_v B o), (1, .int a1)]) dX7_ofWhom_22 (rfl : 22 + 1 = 23) (by decide) rfl (fun ls hl => ?_)
    refine hp_aload_n E hl 0 rfl 1 rfl dX7_ofWhom_23 (rfl : 23 + 1 = 24) ?_
    refine hp_getR E hR in_X7 hc0 rfl 30 (Nat.le_of_ble_eq_true rfl) rfl q1291 (fun _ h => h) dX7_ofWhom_24 (rfl : 24 + 3 = 27) ?_
    refine hp_iload_n E hl 2 rfl 0 rfl dX7_ofWhom_27 (rfl : 27 + 1 = 28) ?_
    refine hp_iload_n E hl 1 rfl 2 rfl dX7_ofWhom_28 (rfl : 28 + 1 = 29) ?_
    obtain ⟨hc5, h⟩ := h
    obtain ⟨hi6, h⟩ := h
    refine hx_iast E hR hc5 hi6 dX7_ofWhom_29 (rfl : 29 + 1 = 30) (fun S7 H locs e9 hm8 hR => ?_)
    have h := h S7 e9
    have hm := hp_mono.tr hm hm8
    refine hp_aload_n E hl 0 rfl 1 rfl dX7_ofWhom_30 (rfl : 30 + 1 = 31) ?_
    refine hp_getR E hR in_X7 (hp_mono.c hm hc0) rfl 31 (Nat.le_of_ble_eq_true rfl) rfl q1292 (fun _ h => h) dX7_ofWhom_31 (rfl : 31 + 3 = 34) ?_
    refine hp_iload_n E hl 2 rfl 0 rfl dX7_ofWhom_34 (rfl : 34 + 1 = 35) ?_
    refine hp_iconst E (0 : Int32) (by decide) dX7_ofWhom_35 (rfl : 35 + 1 = 36) ?_
    obtain ⟨hc10, h⟩ := h
    obtain ⟨hi11, h⟩ := h
    refine hx_iast E hR hc10 hi11 dX7_ofWhom_36 (rfl : 36 + 1 = 37) (fun S12 H locs e14 hm13 hR => ?_)
    have h := h S12 e14
    have hm := hp_mono.tr hm hm13
    refine hp_aload_n E hl 0 rfl 1 rfl dX7_ofWhom_37 (rfl : 37 + 1 = 38) ?_
    refine hp_fv (hp_rV E hR hl (m_X7_take G _ _ _ (hp_mono.c hm hc0) h) (hp_mono.c hm hc0) (ci := 6) rfl rfl q1448 q1450 qs32 q82 q1451 nf_X7_take ⟨Nat.le_of_ble_eq_true rfl, Nat.le_of_ble_eq_true rfl⟩ (rest := []) rfl (Nat.le_of_ble_eq_true rfl) dX7_ofWhom_38 ⟨Nat.le_of_ble_eq_true rfl, Nat.le_of_ble_eq_true rfl⟩) hR (rfl : 38 + 3 = 41) (fun S15 H locs hq hR => ?_)
    obtain ⟨hm16, h⟩ := hq
    have h := h hm16
    have hm := hp_mono.tr hm hm16
    refine hp_iload_n E hl 1 rfl 2 rfl dX7_ofWhom_41 (rfl : 41 + 1 = 42) ?_
    refine hp_iconst E (1 : Int32) (by decide) dX7_ofWhom_42 (rfl : 42 + 1 = 43) ?_
    refine hp_icmp_le E dX7_ofWhom_43 (rfl : 43 + 3 = 46) (tgt := 93) (by decide) (fun hb => ?_) (fun hb => ?_)
    · have h := h.1 hb
      exact b93 _ _ _ _ _ h (lv_sub hl [1, 0] rfl) hR hm
    · have h := h.2 hb
      refine hp_aload_n E hl 0 rfl 1 rfl dX7_ofWhom_46 (rfl : 46 + 1 = 47) ?_
      refine hp_iload_n E hl 1 rfl 2 rfl dX7_ofWhom_47 (rfl : 47 + 1 = 48) ?_
      refine hp_iconst E (2 : Int32) (by decide) dX7_ofWhom_48 (rfl : 48 + 1 = 49) ?_
      refine hp_icmp_ne E dX7_ofWhom_49 (rfl : 49 + 3 = 52) (tgt := 56) (by decide) (fun hb => ?_) (fun hb => ?_)
      · have h := h.1 hb
        refine hp_iconst E (1 : Int32) (by decide) dX7_ofWhom_52 (rfl : 52 + 1 = 53) ?_
        refine hp_goto E (tgt := 57) dX7_ofWhom_53 (by decide) ?_
        exact b57 _ _ _ _ _ _ _ h (lv_sub hl [1, 2, 0] rfl) hR hm
      · have h := h.2 hb
        refine hp_iconst E (0 : Int32) (by decide) dX7_ofWhom_56 (rfl : 56 + 1 = 57) ?_
        exact b57 _ _ _ _ _ _ _ h (lv_sub hl [1, 2, 0] rfl) hR hm
def wb_X7_ofNumber_76 (o : Nat) (a1 : Int32) (v2 : Int32) (t0 : Int32) (S : hp_St) (Q : Int32 → hp_St → Prop) : Prop := wp_X7_isNumber o v2 t0 S (fun z7601 S7602 => hp_mono S S7602 → (((z7601 = 0) → Q (0 : Int32) S7602) ∧ ((¬ (z7601 = 0)) → (st_C S7602 (st_R S7602 o 40) = 50) ∧ (vp_in ((4 : Int32) + a1) (st_L S7602 (st_R S7602 o 40))) ∧ (∀ S7606, S7606 = st_pI S7602 (st_R S7602 o 40) ((4 : Int32) + a1).toNatClampNeg (st_I S7602 o 28) → wp_X7_take o S7606 (fun S7609 => hp_mono S7606 S7609 → Q (1 : Int32) S7609)))))
def wb_X7_ofNumber_45 (o : Nat) (a1 : Int32) (t0 : Int32) (S : hp_St) (Q : Int32 → hp_St → Prop) : Prop := (((a1 = 0) → wb_X7_ofNumber_76 o a1 t0 (40 : Int32) S Q) ∧ ((¬ (a1 = 0)) → (((a1 = (1 : Int32)) → wb_X7_ofNumber_76 o a1 t0 (9 : Int32) S Q) ∧ ((¬ (a1 = (1 : Int32))) → (((a1 = (2 : Int32)) → wb_X7_ofNumber_76 o a1 t0 (99 : Int32) S Q) ∧ ((¬ (a1 = (2 : Int32))) → wb_X7_ofNumber_76 o a1 t0 (3 : Int32) S Q))))))
def wp_X7_ofNumber (o : Nat) (a1 : Int32) (S : hp_St) (Q : Int32 → hp_St → Prop) : Prop := (st_C S (st_R S o 41) = 51) ∧ (vp_in a1 (st_L S (st_R S o 41))) ∧ ((((st_I S (st_R S o 41) a1.toNatClampNeg) = 0) → (vp_in a1 (st_L S (st_R S o 41))) ∧ (∀ S4, S4 = st_pI S (st_R S o 41) a1.toNatClampNeg (1 : Int32) → wp_X7_take o S4 (fun S7 => hp_mono S4 S7 → (((a1 = (2 : Int32)) → wb_X7_ofNumber_45 o a1 (2 : Int32) S7 Q) ∧ ((¬ (a1 = (2 : Int32))) → (((a1 = (3 : Int32)) → wb_X7_ofNumber_45 o a1 (1 : Int32) S7 Q) ∧ ((¬ (a1 = (3 : Int32))) → wb_X7_ofNumber_45 o a1 (0 : Int32) S7 Q))))))) ∧ ((¬ ((st_I S (st_R S o 41) a1.toNatClampNeg) = 0)) → wp_X7_wrong o (3 : Int32) S (fun z9 S10 => hp_mono S S10 → (z9 = 0 ∨ z9 = 1) ∧ Q z9 S10)))
theorem nf_X7_ofNumber : hp_nf yX7_ofNumber 1 = true := by decide +kernel
set_option maxHeartbeats 4000000 in
theorem m_X7_ofNumber {l : Launch} {B : Nat} {D : va_G} {s0 : State} {b0 : Nat} (G : hp_G l B D s0 b0) (o : Nat) (a1 : Int32) (Si : hp_St) (Q : Int32 → hp_St → Prop) (hc0 : st_C Si o = 7) (h : wp_X7_ofNumber o a1 Si Q) : hp_M l B D s0 yX7_ofNumber cX7_ofNumber 4 (some .boolean) 4 256 0 0 [hp_v B o, .int a1] Si (hp_Qi B D s0 (fun r S' => hp_mono Si S' ∧ Q r S')) := by
  refine hp_start G (by decide +kernel) rfl rfl (lv := [(0, hp_v B o), (1, .int a1)]) (by simp [lg_sl, hp_vc, hp_ci, hp_cj]) (by simp [lv_args, hp_vc, hp_ci, hp_cj]) ?_
  intro p e s m args below meth c E ls hl hR
  have hm : hp_mono Si Si := hp_mono.rf
  generalize hH : s.heap = H at hR ⊢
  generalize hLo : ([] : List Loc) = locs at hR ⊢
  have b76 : ∀ (v2 : Int32) (t0 : Int32) (S : hp_St) (H : Heap) (locs : List Loc) (ls : Array Slot), wb_X7_ofNumber_76 o a1 v2 t0 S Q → lv_has ls 4 [(0, hp_v B o), (1, .int a1), (2, .int v2)] → hp_S B D s0 S H locs → hp_mono Si S → W p l e ({ frames := 4, cells := 0, slots := 0, locals := 256 } : Room) s m args below meth c H locs 0 0 (MQ below (hp_Qi B D s0 (fun r S' => hp_mono Si S' ∧ Q r S')) args s 0 0 (fun q => B < q)) (F0 m 76 ls [.int t0]) := by
    intro v2 t0 S H locs ls h hl hR hm
    unfold wb_X7_ofNumber_76 at h
    refine hp_istore_n E hl 3 rfl (lv' := [(0, hp_v B o), (1, .int a1), (2, .int v2)]) dX7_ofNumber_76 (rfl : 76 + 1 = 77) (by decide) rfl (fun ls hl => ?_)
    refine hp_aload_n E hl 0 rfl 1 rfl dX7_ofNumber_77 (rfl : 77 + 1 = 78) ?_
    refine hp_iload_n E hl 2 rfl 3 rfl dX7_ofNumber_78 (rfl : 78 + 1 = 79) ?_
    refine hp_iload_n E hl 3 rfl 0 rfl dX7_ofNumber_79 (rfl : 79 + 1 = 80) ?_
    refine hp_fi (hp_rV E hR hl (m_X7_isNumber G _ _ _ _ _ (hp_mono.c hm hc0) h) (hp_mono.c hm hc0) (ci := 6) rfl rfl q1472 q1474 qs38 q82 q1475 nf_X7_isNumber ⟨Nat.le_of_ble_eq_true rfl, Nat.le_of_ble_eq_true rfl⟩ (rest := []) rfl (Nat.le_of_ble_eq_true rfl) dX7_ofNumber_80 ⟨Nat.le_of_ble_eq_true rfl, Nat.le_of_ble_eq_true rfl⟩) hR (rfl : 80 + 3 = 83) (fun z7601 S7602 H locs hq hR => ?_)
    obtain ⟨hm7603, h⟩ := hq
    have h := h hm7603
    have hm := hp_mono.tr hm hm7603
    refine hp_if_ne E dX7_ofNumber_83 (rfl : 83 + 3 = 86) (tgt := 88) (by decide) (fun hb => ?_) (fun hb => ?_)
    · have h := h.1 hb
      refine hp_iconst E (0 : Int32) (by decide) dX7_ofNumber_86 (rfl : 86 + 1 = 87) ?_
      exact hp_zret E hR (Or.inl rfl) ⟨hm, h⟩ (Nat.le_of_ble_eq_true rfl) (Nat.le_of_ble_eq_true rfl) dX7_ofNumber_87
    · have h := h.2 hb
      refine hp_aload_n E hl 0 rfl 1 rfl dX7_ofNumber_88 (rfl : 88 + 1 = 89) ?_
      refine hp_getR E hR in_X7 (hp_mono.c hm hc0) rfl 40 (Nat.le_of_ble_eq_true rfl) rfl q1301 (fun _ h => h) dX7_ofNumber_89 (rfl : 89 + 3 = 92) ?_
      refine hp_iconst E (4 : Int32) (by decide) dX7_ofNumber_92 (rfl : 92 + 1 = 93) ?_
      refine hp_iload_n E hl 1 rfl 2 rfl dX7_ofNumber_93 (rfl : 93 + 1 = 94) ?_
      refine hp_iadd E dX7_ofNumber_94 (rfl : 94 + 1 = 95) ?_
      refine hp_aload_n E hl 0 rfl 1 rfl dX7_ofNumber_95 (rfl : 95 + 1 = 96) ?_
      refine hp_getI E hR in_X7 (hp_mono.c hm hc0) rfl 28 (Nat.le_of_ble_eq_true rfl) rfl q1289 (fun _ h => h) dX7_ofNumber_96 (rfl : 96 + 3 = 99) ?_
      obtain ⟨hc7604, h⟩ := h
      obtain ⟨hi7605, h⟩ := h
      refine hx_iast E hR hc7604 hi7605 dX7_ofNumber_99 (rfl : 99 + 1 = 100) (fun S7606 H locs e7608 hm7607 hR => ?_)
      have h := h S7606 e7608
      have hm := hp_mono.tr hm hm7607
      refine hp_aload_n E hl 0 rfl 1 rfl dX7_ofNumber_100 (rfl : 100 + 1 = 101) ?_
      refine hp_fv (hp_rV E hR hl (m_X7_take G _ _ _ (hp_mono.c hm hc0) h) (hp_mono.c hm hc0) (ci := 6) rfl rfl q1448 q1450 qs32 q82 q1451 nf_X7_take ⟨Nat.le_of_ble_eq_true rfl, Nat.le_of_ble_eq_true rfl⟩ (rest := []) rfl (Nat.le_of_ble_eq_true rfl) dX7_ofNumber_101 ⟨Nat.le_of_ble_eq_true rfl, Nat.le_of_ble_eq_true rfl⟩) hR (rfl : 101 + 3 = 104) (fun S7609 H locs hq hR => ?_)
      obtain ⟨hm7610, h⟩ := hq
      have h := h hm7610
      have hm := hp_mono.tr hm hm7610
      refine hp_iconst E (1 : Int32) (by decide) dX7_ofNumber_104 (rfl : 104 + 1 = 105) ?_
      exact hp_zret E hR (Or.inr rfl) ⟨hm, h⟩ (Nat.le_of_ble_eq_true rfl) (Nat.le_of_ble_eq_true rfl) dX7_ofNumber_105
  have b45 : ∀ (t0 : Int32) (S : hp_St) (H : Heap) (locs : List Loc) (ls : Array Slot), wb_X7_ofNumber_45 o a1 t0 S Q → lv_has ls 4 [(0, hp_v B o), (1, .int a1)] → hp_S B D s0 S H locs → hp_mono Si S → W p l e ({ frames := 4, cells := 0, slots := 0, locals := 256 } : Room) s m args below meth c H locs 0 0 (MQ below (hp_Qi B D s0 (fun r S' => hp_mono Si S' ∧ Q r S')) args s 0 0 (fun q => B < q)) (F0 m 45 ls [.int t0]) := by
    intro t0 S H locs ls h hl hR hm
    unfold wb_X7_ofNumber_45 at h
    refine hp_istore_n E hl 2 rfl (lv' := [(0, hp_v B o), (1, .int a1)]) dX7_ofNumber_45 (rfl : 45 + 1 = 46) (by decide) rfl (fun ls hl => ?_)
    refine hp_iload_n E hl 1 rfl 2 rfl dX7_ofNumber_46 (rfl : 46 + 1 = 47) ?_
    refine hp_if_ne E dX7_ofNumber_47 (rfl : 47 + 3 = 50) (tgt := 55) (by decide) (fun hb => ?_) (fun hb => ?_)
    · have h := h.1 hb
      refine hp_bipush E (40 : Int32) (by decide) dX7_ofNumber_50 (rfl : 50 + 2 = 52) ?_
      refine hp_goto E (tgt := 76) dX7_ofNumber_52 (by decide) ?_
      exact b76 _ _ _ _ _ _ h (lv_sub hl [1, 2, 0] rfl) hR hm
    · have h := h.2 hb
      refine hp_iload_n E hl 1 rfl 2 rfl dX7_ofNumber_55 (rfl : 55 + 1 = 56) ?_
      refine hp_iconst E (1 : Int32) (by decide) dX7_ofNumber_56 (rfl : 56 + 1 = 57) ?_
      refine hp_icmp_ne E dX7_ofNumber_57 (rfl : 57 + 3 = 60) (tgt := 65) (by decide) (fun hb => ?_) (fun hb => ?_)
      · have h := h.1 hb
        refine hp_bipush E (9 : Int32) (by decide) dX7_ofNumber_60 (rfl : 60 + 2 = 62) ?_
        refine hp_goto E (tgt := 76) dX7_ofNumber_62 (by decide) ?_
        exact b76 _ _ _ _ _ _ h (lv_sub hl [1, 2, 0] rfl) hR hm
      · have h := h.2 hb
        refine hp_iload_n E hl 1 rfl 2 rfl dX7_ofNumber_65 (rfl : 65 + 1 = 66) ?_
        refine hp_iconst E (2 : Int32) (by decide) dX7_ofNumber_66 (rfl : 66 + 1 = 67) ?_
        refine hp_icmp_ne E dX7_ofNumber_67 (rfl : 67 + 3 = 70) (tgt := 75) (by decide) (fun hb => ?_) (fun hb => ?_)
        · have h := h.1 hb
          refine hp_bipush E (99 : Int32) (by decide) dX7_ofNumber_70 (rfl : 70 + 2 = 72) ?_
          refine hp_goto E (tgt := 76) dX7_ofNumber_72 (by decide) ?_
          exact b76 _ _ _ _ _ _ h (lv_sub hl [1, 2, 0] rfl) hR hm
        · have h := h.2 hb
          refine hp_iconst E (3 : Int32) (by decide) dX7_ofNumber_75 (rfl : 75 + 1 = 76) ?_
          exact b76 _ _ _ _ _ _ h (lv_sub hl [1, 2, 0] rfl) hR hm
  unfold wp_X7_ofNumber at h
  refine hp_aload_n E hl 0 rfl 0 rfl dX7_ofNumber_0 (rfl : 0 + 1 = 1) ?_
  refine hp_getR E hR in_X7 hc0 rfl 41 (Nat.le_of_ble_eq_true rfl) rfl q1302 (fun _ h => h) dX7_ofNumber_1 (rfl : 1 + 3 = 4) ?_
  refine hp_iload_n E hl 1 rfl 1 rfl dX7_ofNumber_4 (rfl : 4 + 1 = 5) ?_
  obtain ⟨hc1, h⟩ := h
  obtain ⟨hi2, h⟩ := h
  refine hp_zald E hR hc1 hi2 dX7_ofNumber_5 (rfl : 5 + 1 = 6) ?_
  refine hp_if_eq E dX7_ofNumber_6 (rfl : 6 + 3 = 9) (tgt := 15) (by decide) (fun hb => ?_) (fun hb => ?_)
  · have h := h.1 hb
    refine hp_aload_n E hl 0 rfl 0 rfl dX7_ofNumber_15 (rfl : 15 + 1 = 16) ?_
    refine hp_getR E hR in_X7 hc0 rfl 41 (Nat.le_of_ble_eq_true rfl) rfl q1302 (fun _ h => h) dX7_ofNumber_16 (rfl : 16 + 3 = 19) ?_
    refine hp_iload_n E hl 1 rfl 1 rfl dX7_ofNumber_19 (rfl : 19 + 1 = 20) ?_
    refine hp_iconst E (1 : Int32) (by decide) dX7_ofNumber_20 (rfl : 20 + 1 = 21) ?_
    obtain ⟨hi3, h⟩ := h
    refine hx_zast E hR hc1 hi3 (Or.inr rfl) dX7_ofNumber_21 (rfl : 21 + 1 = 22) (fun S4 H locs e6 hm5 hR => ?_)
    have h := h S4 e6
    have hm := hp_mono.tr hm hm5
    refine hp_aload_n E hl 0 rfl 0 rfl dX7_ofNumber_22 (rfl : 22 + 1 = 23) ?_
    refine hp_fv (hp_rV E hR hl (m_X7_take G _ _ _ (hp_mono.c hm hc0) h) (hp_mono.c hm hc0) (ci := 6) rfl rfl q1448 q1450 qs32 q82 q1451 nf_X7_take ⟨Nat.le_of_ble_eq_true rfl, Nat.le_of_ble_eq_true rfl⟩ (rest := []) rfl (Nat.le_of_ble_eq_true rfl) dX7_ofNumber_23 ⟨Nat.le_of_ble_eq_true rfl, Nat.le_of_ble_eq_true rfl⟩) hR (rfl : 23 + 3 = 26) (fun S7 H locs hq hR => ?_)
    obtain ⟨hm8, h⟩ := hq
    have h := h hm8
    have hm := hp_mono.tr hm hm8
    refine hp_iload_n E hl 1 rfl 1 rfl dX7_ofNumber_26 (rfl : 26 + 1 = 27) ?_
    refine hp_iconst E (2 : Int32) (by decide) dX7_ofNumber_27 (rfl : 27 + 1 = 28) ?_
    refine hp_icmp_ne E dX7_ofNumber_28 (rfl : 28 + 3 = 31) (tgt := 35) (by decide) (fun hb => ?_) (fun hb => ?_)
    · have h := h.1 hb
      refine hp_iconst E (2 : Int32) (by decide) dX7_ofNumber_31 (rfl : 31 + 1 = 32) ?_
      refine hp_goto E (tgt := 45) dX7_ofNumber_32 (by decide) ?_
      exact b45 _ _ _ _ _ h hl hR hm
    · have h := h.2 hb
      refine hp_iload_n E hl 1 rfl 1 rfl dX7_ofNumber_35 (rfl : 35 + 1 = 36) ?_
      refine hp_iconst E (3 : Int32) (by decide) dX7_ofNumber_36 (rfl : 36 + 1 = 37) ?_
      refine hp_icmp_ne E dX7_ofNumber_37 (rfl : 37 + 3 = 40) (tgt := 44) (by decide) (fun hb => ?_) (fun hb => ?_)
      · have h := h.1 hb
        refine hp_iconst E (1 : Int32) (by decide) dX7_ofNumber_40 (rfl : 40 + 1 = 41) ?_
        refine hp_goto E (tgt := 45) dX7_ofNumber_41 (by decide) ?_
        exact b45 _ _ _ _ _ h hl hR hm
      · have h := h.2 hb
        refine hp_iconst E (0 : Int32) (by decide) dX7_ofNumber_44 (rfl : 44 + 1 = 45) ?_
        exact b45 _ _ _ _ _ h hl hR hm
  · have h := h.2 hb
    refine hp_aload_n E hl 0 rfl 0 rfl dX7_ofNumber_9 (rfl : 9 + 1 = 10) ?_
    refine hp_iconst E (3 : Int32) (by decide) dX7_ofNumber_10 (rfl : 10 + 1 = 11) ?_
    refine hp_fi (hp_rV E hR hl (m_X7_wrong G _ _ _ _ hc0 h) hc0 (ci := 6) rfl rfl q1464 q1466 qs36 q82 q1467 nf_X7_wrong ⟨Nat.le_of_ble_eq_true rfl, Nat.le_of_ble_eq_true rfl⟩ (rest := []) rfl (Nat.le_of_ble_eq_true rfl) dX7_ofNumber_11 ⟨Nat.le_of_ble_eq_true rfl, Nat.le_of_ble_eq_true rfl⟩) hR (rfl : 11 + 3 = 14) (fun z9 S10 H locs hq hR => ?_)
    obtain ⟨hm11, h⟩ := hq
    have h := h hm11
    have hm := hp_mono.tr hm hm11
    obtain ⟨hz12, h⟩ := h
    exact hp_zret E hR hz12 ⟨hm, h⟩ (Nat.le_of_ble_eq_true rfl) (Nat.le_of_ble_eq_true rfl) dX7_ofNumber_14
def wb_X7_acts_17 (o : Nat) (a1 : Int32) (S : hp_St) (Q : Int32 → hp_St → Prop) : Prop := Q (-2 : Int32) S
def wb_X7_acts_79 (o : Nat) (a1 : Int32) (S : hp_St) (Q : Int32 → hp_St → Prop) : Prop := wp_X7_wrong o (1 : Int32) S (fun z7901 S7902 => hp_mono S S7902 → Q (-1 : Int32) S7902)
def wb_X7_acts_116 (o : Nat) (a1 : Int32) (v2 : Int32) (t0 : Int32) (S : hp_St) (K55 : Int32 → hp_St → Prop) (Q : Int32 → hp_St → Prop) : Prop := (((t0 = 0) → Q (-1 : Int32) S) ∧ ((¬ (t0 = 0)) → ((((st_I S o 27) = (3 : Int32)) → wp_X7_take o S (fun S11601 => hp_mono S S11601 → K55 (v2 + (1 : Int32)) S11601)) ∧ ((¬ ((st_I S o 27) = (3 : Int32))) → wp_X7_wrong o (1 : Int32) S (fun z11603 S11604 => hp_mono S S11604 → Q (-1 : Int32) S11604)))))
def wb_X7_acts_55 (o : Nat) (a1 : Int32) (v2 : Int32) (S : hp_St) (K55 : Int32 → hp_St → Prop) (Q : Int32 → hp_St → Prop) : Prop := ((((st_I S o 27) = 0) → wp_X7_keep o S (fun S5501 => hp_mono S S5501 → Q v2 S5501)) ∧ ((¬ ((st_I S o 27) = 0)) → ((((st_I S o 27) = (1 : Int32)) → ((((st_I S o 28) ≤ (7 : Int32)) → ((((st_I S o 28) < (4 : Int32)) → wp_X7_ofWhom o (st_I S o 28) S (fun z5503 S5504 => hp_mono S S5504 → wb_X7_acts_116 o a1 v2 z5503 S5504 K55 Q)) ∧ ((¬ ((st_I S o 28) < (4 : Int32))) → wp_X7_ofNumber o ((st_I S o 28) - (4 : Int32)) S (fun z5506 S5507 => hp_mono S S5507 → wb_X7_acts_116 o a1 v2 z5506 S5507 K55 Q)))) ∧ ((¬ ((st_I S o 28) ≤ (7 : Int32))) → wb_X7_acts_79 o a1 S Q))) ∧ ((¬ ((st_I S o 27) = (1 : Int32))) → wb_X7_acts_79 o a1 S Q))))
def wl_X7_acts_55 (o : Nat) (a1 : Int32) (v2 : Int32) (S : hp_St) (Q : Int32 → hp_St → Prop) : Prop := ∃ (I : Int32 → hp_St → Prop) (μ : Int32 → hp_St → Nat), I v2 S ∧ ∀ (v2 : Int32) (S1 : hp_St), hp_mono S S1 → I v2 S1 → wb_X7_acts_55 o a1 v2 S1 (fun v2' S2 => I v2' S2 ∧ μ v2' S2 < μ v2 S1) Q
def wp_X7_acts (o : Nat) (a1 : Int32) (S : hp_St) (Q : Int32 → hp_St → Prop) : Prop := (∀ S1, S1 = st_pI S o 2 (0 : Int32) → (((a1 < 0) → wb_X7_acts_17 o a1 S1 Q) ∧ ((¬ (a1 < 0)) → (((a1 ≤ (st_I S1 o 1)) → (∀ S4, S4 = st_pI S1 o 25 a1 → (∀ S7, S7 = st_pI S4 o 1 (0 : Int32) → (∀ S10, S10 = st_pI S7 o 23 (0 : Int32) → (∀ S13, S13 = st_pI S10 o 24 (-1 : Int32) → (∀ S16, S16 = st_pI S13 o 26 (0 : Int32) → wp_X7_plain o S16 (fun S19 => hp_mono S16 S19 → wp_X7_take o S19 (fun S21 => hp_mono S19 S21 → wl_X7_acts_55 o a1 (0 : Int32) S21 Q)))))))) ∧ ((¬ (a1 ≤ (st_I S1 o 1))) → wb_X7_acts_17 o a1 S1 Q)))))
theorem nf_X7_acts : hp_nf yX7_acts 1 = true := by decide +kernel
set_option maxHeartbeats 4000000 in
theorem m_X7_acts {l : Launch} {B : Nat} {D : va_G} {s0 : State} {b0 : Nat} (G : hp_G l B D s0 b0) (o : Nat) (a1 : Int32) (Si : hp_St) (Q : Int32 → hp_St → Prop) (hc0 : st_C Si o = 7) (h : wp_X7_acts o a1 Si Q) : hp_M l B D s0 yX7_acts cX7_acts 4 (some .int) 7 448 0 0 [hp_v B o, .int a1] Si (hp_Qi B D s0 (fun r S' => hp_mono Si S' ∧ Q r S')) := by
  refine hp_start G (by decide +kernel) rfl rfl (lv := [(0, hp_v B o), (1, .int a1)]) (by simp [lg_sl, hp_vc, hp_ci, hp_cj]) (by simp [lv_args, hp_vc, hp_ci, hp_cj]) ?_
  intro p e s m args below meth c E ls hl hR
  have hm : hp_mono Si Si := hp_mono.rf
  generalize hH : s.heap = H at hR ⊢
  generalize hLo : ([] : List Loc) = locs at hR ⊢
  have b17 : ∀ (S : hp_St) (H : Heap) (locs : List Loc) (ls : Array Slot), wb_X7_acts_17 o a1 S Q → lv_has ls 4 [] → hp_S B D s0 S H locs → hp_mono Si S → W p l e ({ frames := 7, cells := 0, slots := 0, locals := 448 } : Room) s m args below meth c H locs 0 0 (MQ below (hp_Qi B D s0 (fun r S' => hp_mono Si S' ∧ Q r S')) args s 0 0 (fun q => B < q)) (F0 m 17 ls []) := by
    intro S H locs ls h hl hR hm
    unfold wb_X7_acts_17 at h
    refine hp_bipush E (-2 : Int32) (by decide) dX7_acts_17 (rfl : 17 + 2 = 19) ?_
    exact hp_iret E hR ⟨hm, h⟩ (Nat.le_of_ble_eq_true rfl) (Nat.le_of_ble_eq_true rfl) dX7_acts_19
  have b79 : ∀ (S : hp_St) (H : Heap) (locs : List Loc) (ls : Array Slot), wb_X7_acts_79 o a1 S Q → lv_has ls 4 [(0, hp_v B o)] → hp_S B D s0 S H locs → hp_mono Si S → W p l e ({ frames := 7, cells := 0, slots := 0, locals := 448 } : Room) s m args below meth c H locs 0 0 (MQ below (hp_Qi B D s0 (fun r S' => hp_mono Si S' ∧ Q r S')) args s 0 0 (fun q => B < q)) (F0 m 79 ls []) := by
    intro S H locs ls h hl hR hm
    unfold wb_X7_acts_79 at h
    refine hp_aload_n E hl 0 rfl 0 rfl dX7_acts_79 (rfl : 79 + 1 = 80) ?_
    refine hp_iconst E (1 : Int32) (by decide) dX7_acts_80 (rfl : 80 + 1 = 81) ?_
    refine hp_fi (hp_rV E hR hl (m_X7_wrong G _ _ _ _ (hp_mono.c hm hc0) h) (hp_mono.c hm hc0) (ci := 6) rfl rfl q1464 q1466 qs36 q82 q1467 nf_X7_wrong ⟨Nat.le_of_ble_eq_true rfl, Nat.le_of_ble_eq_true rfl⟩ (rest := []) rfl (Nat.le_of_ble_eq_true rfl) dX7_acts_81 ⟨Nat.le_of_ble_eq_true rfl, Nat.le_of_ble_eq_true rfl⟩) hR (rfl : 81 + 3 = 84) (fun z7901 S7902 H locs hq hR => ?_)
    obtain ⟨hm7903, h⟩ := hq
    have h := h hm7903
    have hm := hp_mono.tr hm hm7903
    refine hp_pop E rfl dX7_acts_84 (rfl : 84 + 1 = 85) ?_
    refine hp_iconst E (-1 : Int32) (by decide) dX7_acts_85 (rfl : 85 + 1 = 86) ?_
    exact hp_iret E hR ⟨hm, h⟩ (Nat.le_of_ble_eq_true rfl) (Nat.le_of_ble_eq_true rfl) dX7_acts_86
  have b55 : ∀ (v2 : Int32) (S : hp_St) (H : Heap) (locs : List Loc) (ls : Array Slot), wl_X7_acts_55 o a1 v2 S Q → lv_has ls 4 [(0, hp_v B o), (2, .int v2)] → hp_S B D s0 S H locs → hp_mono Si S → W p l e ({ frames := 7, cells := 0, slots := 0, locals := 448 } : Room) s m args below meth c H locs 0 0 (MQ below (hp_Qi B D s0 (fun r S' => hp_mono Si S' ∧ Q r S')) args s 0 0 (fun q => B < q)) (F0 m 55 ls []) := by
    intro v2 S H locs ls h hl hR hm
    obtain ⟨I55, μ55, hI, hst⟩ := h
    obtain ⟨Sa55, eSa55⟩ : ∃ x, x = S := ⟨_, rfl⟩
    subst eSa55
    have key55 : ∀ (N : Nat) (v2 : Int32) (Su55 : hp_St) (H : Heap) (locs : List Loc) (ls : Array Slot), μ55 v2 Su55 < N → I55 v2 Su55 → lv_has ls 4 [(0, hp_v B o), (2, .int v2)] → hp_S B D s0 Su55 H locs → hp_mono Sa55 Su55 → W p l e ({ frames := 7, cells := 0, slots := 0, locals := 448 } : Room) s m args below meth c H locs 0 0 (MQ below (hp_Qi B D s0 (fun r S' => hp_mono Si S' ∧ Q r S')) args s 0 0 (fun q => B < q)) (F0 m 55 ls []) := by
      intro N
      induction N with
      | zero =>
        intro v2 Su55 H locs ls hN
        exact absurd hN (Nat.not_lt_zero _)
      | succ N ih55 =>
        intro v2 Su55 H locs ls hN hI hl hR ms55
        have h := hst v2 Su55 ms55 hI
        have hm := hp_mono.tr hm ms55
        obtain ⟨K55, hKe55⟩ : ∃ K : Int32 → hp_St → Prop, K = (fun v2' Sk => I55 v2' Sk ∧ μ55 v2' Sk < μ55 v2 Su55) := ⟨_, rfl⟩
        rw [← hKe55] at h
        have hK55 : ∀ (v2' : Int32) (Sk : hp_St) (H : Heap) (locs : List Loc) (ls : Array Slot), K55 v2' Sk → lv_has ls 4 [(0, hp_v B o), (2, .int (v2'))] → hp_S B D s0 Sk H locs → hp_mono Sa55 Sk → W p l e ({ frames := 7, cells := 0, slots := 0, locals := 448 } : Room) s m args below meth c H locs 0 0 (MQ below (hp_Qi B D s0 (fun r S' => hp_mono Si S' ∧ Q r S')) args s 0 0 (fun q => B < q)) (F0 m 55 ls []) := by
          intro v2' Sk H locs ls hI hl hR ms
          rw [hKe55] at hI
          exact ih55 v2' Sk H locs ls (Nat.lt_of_lt_of_le hI.2 (Nat.le_of_lt_succ hN)) hI.1 hl hR ms
        have b116 : ∀ (v2 : Int32) (t0 : Int32) (S : hp_St) (H : Heap) (locs : List Loc) (ls : Array Slot), wb_X7_acts_116 o a1 v2 t0 S K55 Q → lv_has ls 4 [(0, hp_v B o), (2, .int v2)] → hp_S B D s0 S H locs → hp_mono Si S → hp_mono Sa55 S → W p l e ({ frames := 7, cells := 0, slots := 0, locals := 448 } : Room) s m args below meth c H locs 0 0 (MQ below (hp_Qi B D s0 (fun r S' => hp_mono Si S' ∧ Q r S')) args s 0 0 (fun q => B < q)) (F0 m 116 ls [.int t0]) := by
          intro v2 t0 S H locs ls h hl hR hm ms55
          unfold wb_X7_acts_116 at h
          refine hp_istore_n E hl 3 rfl (lv' := [(0, hp_v B o), (2, .int v2)]) dX7_acts_116 (rfl : 116 + 1 = 117) (by decide) rfl (fun ls hl => ?_)
          refine hp_iload_n E hl 3 rfl 0 rfl dX7_acts_117 (rfl : 117 + 1 = 118) ?_
          refine hp_if_ne E dX7_acts_118 (rfl : 118 + 3 = 121) (tgt := 123) (by decide) (fun hb => ?_) (fun hb => ?_)
          · have h := h.1 hb
            refine hp_iconst E (-1 : Int32) (by decide) dX7_acts_121 (rfl : 121 + 1 = 122) ?_
            exact hp_iret E hR ⟨hm, h⟩ (Nat.le_of_ble_eq_true rfl) (Nat.le_of_ble_eq_true rfl) dX7_acts_122
          · have h := h.2 hb
            refine hp_aload_n E hl 0 rfl 1 rfl dX7_acts_123 (rfl : 123 + 1 = 124) ?_
            refine hp_getI E hR in_X7 (hp_mono.c hm hc0) rfl 27 (Nat.le_of_ble_eq_true rfl) rfl q1288 (fun _ h => h) dX7_acts_124 (rfl : 124 + 3 = 127) ?_
            refine hp_iconst E (3 : Int32) (by decide) dX7_acts_127 (rfl : 127 + 1 = 128) ?_
            refine hp_icmp_eq E dX7_acts_128 (rfl : 128 + 3 = 131) (tgt := 139) (by decide) (fun hb => ?_) (fun hb => ?_)
            · have h := h.1 hb
              refine hp_aload_n E hl 0 rfl 1 rfl dX7_acts_139 (rfl : 139 + 1 = 140) ?_
              refine hp_fv (hp_rV E hR hl (m_X7_take G _ _ _ (hp_mono.c hm hc0) h) (hp_mono.c hm hc0) (ci := 6) rfl rfl q1448 q1450 qs32 q82 q1451 nf_X7_take ⟨Nat.le_of_ble_eq_true rfl, Nat.le_of_ble_eq_true rfl⟩ (rest := []) rfl (Nat.le_of_ble_eq_true rfl) dX7_acts_140 ⟨Nat.le_of_ble_eq_true rfl, Nat.le_of_ble_eq_true rfl⟩) hR (rfl : 140 + 3 = 143) (fun S11601 H locs hq hR => ?_)
              obtain ⟨hm11602, h⟩ := hq
              have h := h hm11602
              have hm := hp_mono.tr hm hm11602
              have ms55 := hp_mono.tr ms55 hm11602
              refine hp_iinc E hl (v2 + (1 : Int32)) 2 (lv' := [(3, .int t0), (0, hp_v B o)]) dX7_acts_143 (rfl : 143 + 3 = 146) rfl (by first | rfl | (congr 1)) (by decide) rfl (fun ls hl => ?_)
              refine hp_goto E (tgt := 55) dX7_acts_146 (by decide) ?_
              exact hK55 _ _ _ _ _ h (lv_sub hl [2, 0] rfl) hR ms55
            · have h := h.2 hb
              refine hp_aload_n E hl 0 rfl 1 rfl dX7_acts_131 (rfl : 131 + 1 = 132) ?_
              refine hp_iconst E (1 : Int32) (by decide) dX7_acts_132 (rfl : 132 + 1 = 133) ?_
              refine hp_fi (hp_rV E hR hl (m_X7_wrong G _ _ _ _ (hp_mono.c hm hc0) h) (hp_mono.c hm hc0) (ci := 6) rfl rfl q1464 q1466 qs36 q82 q1467 nf_X7_wrong ⟨Nat.le_of_ble_eq_true rfl, Nat.le_of_ble_eq_true rfl⟩ (rest := []) rfl (Nat.le_of_ble_eq_true rfl) dX7_acts_133 ⟨Nat.le_of_ble_eq_true rfl, Nat.le_of_ble_eq_true rfl⟩) hR (rfl : 133 + 3 = 136) (fun z11603 S11604 H locs hq hR => ?_)
              obtain ⟨hm11605, h⟩ := hq
              have h := h hm11605
              have hm := hp_mono.tr hm hm11605
              have ms55 := hp_mono.tr ms55 hm11605
              refine hp_pop E rfl dX7_acts_136 (rfl : 136 + 1 = 137) ?_
              refine hp_iconst E (-1 : Int32) (by decide) dX7_acts_137 (rfl : 137 + 1 = 138) ?_
              exact hp_iret E hR ⟨hm, h⟩ (Nat.le_of_ble_eq_true rfl) (Nat.le_of_ble_eq_true rfl) dX7_acts_138
        unfold wb_X7_acts_55 at h
        refine hp_aload_n E hl 0 rfl 0 rfl dX7_acts_55 (rfl : 55 + 1 = 56) ?_
        refine hp_getI E hR in_X7 (hp_mono.c hm hc0) rfl 27 (Nat.le_of_ble_eq_true rfl) rfl q1288 (fun _ h => h) dX7_acts_56 (rfl : 56 + 3 = 59) ?_
        refine hp_if_eq E dX7_acts_59 (rfl : 59 + 3 = 62) (tgt := 149) (by decide) (fun hb => ?_) (fun hb => ?_)
        · have h := h.1 hb
          refine hp_aload_n E hl 0 rfl 0 rfl dX7_acts_149 (rfl : 149 + 1 = 150) ?_
          refine hp_fv (hp_rV E hR hl (m_X7_keep G _ _ _ (hp_mono.c hm hc0) h) (hp_mono.c hm hc0) (ci := 6) rfl rfl q1257 q1259 qs31 q82 q1260 nf_X7_keep ⟨Nat.le_of_ble_eq_true rfl, Nat.le_of_ble_eq_true rfl⟩ (rest := []) rfl (Nat.le_of_ble_eq_true rfl) dX7_acts_150 ⟨Nat.le_of_ble_eq_true rfl, Nat.le_of_ble_eq_true rfl⟩) hR (rfl : 150 + 3 = 153) (fun S5501 H locs hq hR => ?_)
          obtain ⟨hm5502, h⟩ := hq
          have h := h hm5502
          have hm := hp_mono.tr hm hm5502
          have ms55 := hp_mono.tr ms55 hm5502
          refine hp_iload_n E hl 2 rfl 1 rfl dX7_acts_153 (rfl : 153 + 1 = 154) ?_
          exact hp_iret E hR ⟨hm, h⟩ (Nat.le_of_ble_eq_true rfl) (Nat.le_of_ble_eq_true rfl) dX7_acts_154
        · have h := h.2 hb
          refine hp_aload_n E hl 0 rfl 0 rfl dX7_acts_62 (rfl : 62 + 1 = 63) ?_
          refine hp_getI E hR in_X7 (hp_mono.c hm hc0) rfl 27 (Nat.le_of_ble_eq_true rfl) rfl q1288 (fun _ h => h) dX7_acts_63 (rfl : 63 + 3 = 66) ?_
          refine hp_iconst E (1 : Int32) (by decide) dX7_acts_66 (rfl : 66 + 1 = 67) ?_
          refine hp_icmp_ne E dX7_acts_67 (rfl : 67 + 3 = 70) (tgt := 79) (by decide) (fun hb => ?_) (fun hb => ?_)
          · have h := h.1 hb
            refine hp_aload_n E hl 0 rfl 0 rfl dX7_acts_70 (rfl : 70 + 1 = 71) ?_
            refine hp_getI E hR in_X7 (hp_mono.c hm hc0) rfl 28 (Nat.le_of_ble_eq_true rfl) rfl q1289 (fun _ h => h) dX7_acts_71 (rfl : 71 + 3 = 74) ?_
            refine hp_bipush E (7 : Int32) (by decide) dX7_acts_74 (rfl : 74 + 2 = 76) ?_
            refine hp_icmp_le E dX7_acts_76 (rfl : 76 + 3 = 79) (tgt := 87) (by decide) (fun hb => ?_) (fun hb => ?_)
            · have h := h.1 hb
              refine hp_aload_n E hl 0 rfl 0 rfl dX7_acts_87 (rfl : 87 + 1 = 88) ?_
              refine hp_getI E hR in_X7 (hp_mono.c hm hc0) rfl 28 (Nat.le_of_ble_eq_true rfl) rfl q1289 (fun _ h => h) dX7_acts_88 (rfl : 88 + 3 = 91) ?_
              refine hp_iconst E (4 : Int32) (by decide) dX7_acts_91 (rfl : 91 + 1 = 92) ?_
              refine hp_icmp_ge E dX7_acts_92 (rfl : 92 + 3 = 95) (tgt := 106) (by decide) (fun hb => ?_) (fun hb => ?_)
              · have h := h.1 hb
                refine hp_aload_n E hl 0 rfl 0 rfl dX7_acts_95 (rfl : 95 + 1 = 96) ?_
                refine hp_aload_n E hl 0 rfl 0 rfl dX7_acts_96 (rfl : 96 + 1 = 97) ?_
                refine hp_getI E hR in_X7 (hp_mono.c hm hc0) rfl 28 (Nat.le_of_ble_eq_true rfl) rfl q1289 (fun _ h => h) dX7_acts_97 (rfl : 97 + 3 = 100) ?_
                refine hp_fi (hp_rV E hR hl (m_X7_ofWhom G _ _ _ _ (hp_mono.c hm hc0) h) (hp_mono.c hm hc0) (ci := 6) rfl rfl q1468 q1470 qs37 q82 q1471 nf_X7_ofWhom ⟨Nat.le_of_ble_eq_true rfl, Nat.le_of_ble_eq_true rfl⟩ (rest := []) rfl (Nat.le_of_ble_eq_true rfl) dX7_acts_100 ⟨Nat.le_of_ble_eq_true rfl, Nat.le_of_ble_eq_true rfl⟩) hR (rfl : 100 + 3 = 103) (fun z5503 S5504 H locs hq hR => ?_)
                obtain ⟨hm5505, h⟩ := hq
                have h := h hm5505
                have hm := hp_mono.tr hm hm5505
                have ms55 := hp_mono.tr ms55 hm5505
                refine hp_goto E (tgt := 116) dX7_acts_103 (by decide) ?_
                exact b116 _ _ _ _ _ _ h hl hR hm ms55
              · have h := h.2 hb
                refine hp_aload_n E hl 0 rfl 0 rfl dX7_acts_106 (rfl : 106 + 1 = 107) ?_
                refine hp_aload_n E hl 0 rfl 0 rfl dX7_acts_107 (rfl : 107 + 1 = 108) ?_
                refine hp_getI E hR in_X7 (hp_mono.c hm hc0) rfl 28 (Nat.le_of_ble_eq_true rfl) rfl q1289 (fun _ h => h) dX7_acts_108 (rfl : 108 + 3 = 111) ?_
                refine hp_iconst E (4 : Int32) (by decide) dX7_acts_111 (rfl : 111 + 1 = 112) ?_
                refine hp_isub E dX7_acts_112 (rfl : 112 + 1 = 113) ?_
                refine hp_fi (hp_rV E hR hl (m_X7_ofNumber G _ _ _ _ (hp_mono.c hm hc0) h) (hp_mono.c hm hc0) (ci := 6) rfl rfl q1492 q1494 qs43 q82 q1495 nf_X7_ofNumber ⟨Nat.le_of_ble_eq_true rfl, Nat.le_of_ble_eq_true rfl⟩ (rest := []) rfl (Nat.le_of_ble_eq_true rfl) dX7_acts_113 ⟨Nat.le_of_ble_eq_true rfl, Nat.le_of_ble_eq_true rfl⟩) hR (rfl : 113 + 3 = 116) (fun z5506 S5507 H locs hq hR => ?_)
                obtain ⟨hm5508, h⟩ := hq
                have h := h hm5508
                have hm := hp_mono.tr hm hm5508
                have ms55 := hp_mono.tr ms55 hm5508
                exact b116 _ _ _ _ _ _ h hl hR hm ms55
            · have h := h.2 hb
              exact b79 _ _ _ _ h (lv_sub hl [0] rfl) hR hm
          · have h := h.2 hb
            exact b79 _ _ _ _ h (lv_sub hl [0] rfl) hR hm
    exact key55 (μ55 v2 Sa55 + 1) v2 _ H locs ls (Nat.lt_succ_self _) hI hl hR hp_mono.rf
  unfold wp_X7_acts at h
  refine hp_aload_n E hl 0 rfl 0 rfl dX7_acts_0 (rfl : 0 + 1 = 1) ?_
  refine hp_iconst E (0 : Int32) (by decide) dX7_acts_1 (rfl : 1 + 1 = 2) ?_
  refine hx_putI E hR in_X7 tyX7 tyX7_ok nmX7 hc0 rfl 2 (Nat.le_of_ble_eq_true rfl) rfl q1263 (fun _ h => h) (Or.inl rfl) (Or.inl rfl) dX7_acts_2 (rfl : 2 + 3 = 5) (fun S1 H locs e3 hm2 hR => ?_)
  have h := h S1 e3
  have hm := hp_mono.tr hm hm2
  refine hp_iload_n E hl 1 rfl 1 rfl dX7_acts_5 (rfl : 5 + 1 = 6) ?_
  refine hp_if_lt E dX7_acts_6 (rfl : 6 + 3 = 9) (tgt := 17) (by decide) (fun hb => ?_) (fun hb => ?_)
  · have h := h.1 hb
    exact b17 _ _ _ _ h (lv_sub hl [] rfl) hR hm
  · have h := h.2 hb
    refine hp_iload_n E hl 1 rfl 1 rfl dX7_acts_9 (rfl : 9 + 1 = 10) ?_
    refine hp_aload_n E hl 0 rfl 0 rfl dX7_acts_10 (rfl : 10 + 1 = 11) ?_
    refine hp_getI E hR in_X7 (hp_mono.c hm hc0) rfl 1 (Nat.le_of_ble_eq_true rfl) rfl q1262 (fun _ h => h) dX7_acts_11 (rfl : 11 + 3 = 14) ?_
    refine hp_icmp_le E dX7_acts_14 (rfl : 14 + 3 = 17) (tgt := 20) (by decide) (fun hb => ?_) (fun hb => ?_)
    · have h := h.1 hb
      refine hp_aload_n E hl 0 rfl 0 rfl dX7_acts_20 (rfl : 20 + 1 = 21) ?_
      refine hp_iload_n E hl 1 rfl 1 rfl dX7_acts_21 (rfl : 21 + 1 = 22) ?_
      refine hx_putI E hR in_X7 tyX7 tyX7_ok nmX7 (hp_mono.c hm hc0) rfl 25 (Nat.le_of_ble_eq_true rfl) rfl q1286 (fun _ h => h) (Or.inl rfl) (Or.inl rfl) dX7_acts_22 (rfl : 22 + 3 = 25) (fun S4 H locs e6 hm5 hR => ?_)
      have h := h S4 e6
      have hm := hp_mono.tr hm hm5
      refine hp_aload_n E hl 0 rfl 0 rfl dX7_acts_25 (rfl : 25 + 1 = 26) ?_
      refine hp_iconst E (0 : Int32) (by decide) dX7_acts_26 (rfl : 26 + 1 = 27) ?_
      refine hx_putI E hR in_X7 tyX7 tyX7_ok nmX7 (hp_mono.c hm hc0) rfl 1 (Nat.le_of_ble_eq_true rfl) rfl q1262 (fun _ h => h) (Or.inl rfl) (Or.inl rfl) dX7_acts_27 (rfl : 27 + 3 = 30) (fun S7 H locs e9 hm8 hR => ?_)
      have h := h S7 e9
      have hm := hp_mono.tr hm hm8
      refine hp_aload_n E hl 0 rfl 0 rfl dX7_acts_30 (rfl : 30 + 1 = 31) ?_
      refine hp_iconst E (0 : Int32) (by decide) dX7_acts_31 (rfl : 31 + 1 = 32) ?_
      refine hx_putI E hR in_X7 tyX7 tyX7_ok nmX7 (hp_mono.c hm hc0) rfl 23 (Nat.le_of_ble_eq_true rfl) rfl q1284 (fun _ h => h) (Or.inl rfl) (Or.inl rfl) dX7_acts_32 (rfl : 32 + 3 = 35) (fun S10 H locs e12 hm11 hR => ?_)
      have h := h S10 e12
      have hm := hp_mono.tr hm hm11
      refine hp_aload_n E hl 0 rfl 0 rfl dX7_acts_35 (rfl : 35 + 1 = 36) ?_
      refine hp_iconst E (-1 : Int32) (by decide) dX7_acts_36 (rfl : 36 + 1 = 37) ?_
      refine hx_putI E hR in_X7 tyX7 tyX7_ok nmX7 (hp_mono.c hm hc0) rfl 24 (Nat.le_of_ble_eq_true rfl) rfl q1285 (fun _ h => h) (Or.inl rfl) (Or.inl rfl) dX7_acts_37 (rfl : 37 + 3 = 40) (fun S13 H locs e15 hm14 hR => ?_)
      have h := h S13 e15
      have hm := hp_mono.tr hm hm14
      refine hp_aload_n E hl 0 rfl 0 rfl dX7_acts_40 (rfl : 40 + 1 = 41) ?_
      refine hp_iconst E (0 : Int32) (by decide) dX7_acts_41 (rfl : 41 + 1 = 42) ?_
      refine hx_putI E hR in_X7 tyX7 tyX7_ok nmX7 (hp_mono.c hm hc0) rfl 26 (Nat.le_of_ble_eq_true rfl) rfl q1287 (fun _ h => h) (Or.inl rfl) (Or.inl rfl) dX7_acts_42 (rfl : 42 + 3 = 45) (fun S16 H locs e18 hm17 hR => ?_)
      have h := h S16 e18
      have hm := hp_mono.tr hm hm17
      refine hp_aload_n E hl 0 rfl 0 rfl dX7_acts_45 (rfl : 45 + 1 = 46) ?_
      refine hp_fv (hp_rV E hR hl (m_X7_plain G _ _ _ (hp_mono.c hm hc0) h) (hp_mono.c hm hc0) (ci := 6) rfl rfl q1253 q1255 qs30 q82 q1256 nf_X7_plain ⟨Nat.le_of_ble_eq_true rfl, Nat.le_of_ble_eq_true rfl⟩ (rest := []) rfl (Nat.le_of_ble_eq_true rfl) dX7_acts_46 ⟨Nat.le_of_ble_eq_true rfl, Nat.le_of_ble_eq_true rfl⟩) hR (rfl : 46 + 3 = 49) (fun S19 H locs hq hR => ?_)
      obtain ⟨hm20, h⟩ := hq
      have h := h hm20
      have hm := hp_mono.tr hm hm20
      refine hp_iconst E (0 : Int32) (by decide) dX7_acts_49 (rfl : 49 + 1 = 50) ?_
      refine hp_istore_n E hl 2 rfl (lv' := [(0, hp_v B o), (1, .int a1)]) dX7_acts_50 (rfl : 50 + 1 = 51) (by decide) rfl (fun ls hl => ?_)
      refine hp_aload_n E hl 0 rfl 1 rfl dX7_acts_51 (rfl : 51 + 1 = 52) ?_
      refine hp_fv (hp_rV E hR hl (m_X7_take G _ _ _ (hp_mono.c hm hc0) h) (hp_mono.c hm hc0) (ci := 6) rfl rfl q1448 q1450 qs32 q82 q1451 nf_X7_take ⟨Nat.le_of_ble_eq_true rfl, Nat.le_of_ble_eq_true rfl⟩ (rest := []) rfl (Nat.le_of_ble_eq_true rfl) dX7_acts_52 ⟨Nat.le_of_ble_eq_true rfl, Nat.le_of_ble_eq_true rfl⟩) hR (rfl : 52 + 3 = 55) (fun S21 H locs hq hR => ?_)
      obtain ⟨hm22, h⟩ := hq
      have h := h hm22
      have hm := hp_mono.tr hm hm22
      exact b55 _ _ _ _ _ h (lv_sub hl [1, 0] rfl) hR hm
    · have h := h.2 hb
      exact b17 _ _ _ _ h (lv_sub hl [] rfl) hR hm
def wb_X7_fault_29 (o : Nat) (a1 : Int32) (t0 : Int32) (S : hp_St) (Q : Int32 → hp_St → Prop) : Prop := Q t0 S
def wp_X7_fault (o : Nat) (a1 : Int32) (S : hp_St) (Q : Int32 → hp_St → Prop) : Prop := (∀ S1, S1 = st_pI S o 2 (0 : Int32) → (((a1 = 0) → wb_X7_fault_29 o a1 (st_I S1 o 23) S1 Q) ∧ ((¬ (a1 = 0)) → (((a1 = (1 : Int32)) → wb_X7_fault_29 o a1 (st_I S1 o 24) S1 Q) ∧ ((¬ (a1 = (1 : Int32))) → wb_X7_fault_29 o a1 (-1 : Int32) S1 Q)))))
theorem nf_X7_fault : hp_nf yX7_fault 1 = true := by decide +kernel
set_option maxHeartbeats 4000000 in
theorem m_X7_fault {l : Launch} {B : Nat} {D : va_G} {s0 : State} {b0 : Nat} (G : hp_G l B D s0 b0) (o : Nat) (a1 : Int32) (Si : hp_St) (Q : Int32 → hp_St → Prop) (hc0 : st_C Si o = 7) (h : wp_X7_fault o a1 Si Q) : hp_M l B D s0 yX7_fault cX7_fault 2 (some .int) 2 128 0 0 [hp_v B o, .int a1] Si (hp_Qi B D s0 (fun r S' => hp_mono Si S' ∧ Q r S')) := by
  refine hp_start G (by decide +kernel) rfl rfl (lv := [(0, hp_v B o), (1, .int a1)]) (by simp [lg_sl, hp_vc, hp_ci, hp_cj]) (by simp [lv_args, hp_vc, hp_ci, hp_cj]) ?_
  intro p e s m args below meth c E ls hl hR
  have hm : hp_mono Si Si := hp_mono.rf
  generalize hH : s.heap = H at hR ⊢
  generalize hLo : ([] : List Loc) = locs at hR ⊢
  have b29 : ∀ (t0 : Int32) (S : hp_St) (H : Heap) (locs : List Loc) (ls : Array Slot), wb_X7_fault_29 o a1 t0 S Q → lv_has ls 2 [] → hp_S B D s0 S H locs → hp_mono Si S → W p l e ({ frames := 2, cells := 0, slots := 0, locals := 128 } : Room) s m args below meth c H locs 0 0 (MQ below (hp_Qi B D s0 (fun r S' => hp_mono Si S' ∧ Q r S')) args s 0 0 (fun q => B < q)) (F0 m 29 ls [.int t0]) := by
    intro t0 S H locs ls h hl hR hm
    unfold wb_X7_fault_29 at h
    exact hp_iret E hR ⟨hm, h⟩ (Nat.le_of_ble_eq_true rfl) (Nat.le_of_ble_eq_true rfl) dX7_fault_29
  unfold wp_X7_fault at h
  refine hp_aload_n E hl 0 rfl 0 rfl dX7_fault_0 (rfl : 0 + 1 = 1) ?_
  refine hp_iconst E (0 : Int32) (by decide) dX7_fault_1 (rfl : 1 + 1 = 2) ?_
  refine hx_putI E hR in_X7 tyX7 tyX7_ok nmX7 hc0 rfl 2 (Nat.le_of_ble_eq_true rfl) rfl q1263 (fun _ h => h) (Or.inl rfl) (Or.inl rfl) dX7_fault_2 (rfl : 2 + 3 = 5) (fun S1 H locs e3 hm2 hR => ?_)
  have h := h S1 e3
  have hm := hp_mono.tr hm hm2
  refine hp_iload_n E hl 1 rfl 1 rfl dX7_fault_5 (rfl : 5 + 1 = 6) ?_
  refine hp_if_ne E dX7_fault_6 (rfl : 6 + 3 = 9) (tgt := 16) (by decide) (fun hb => ?_) (fun hb => ?_)
  · have h := h.1 hb
    refine hp_aload_n E hl 0 rfl 0 rfl dX7_fault_9 (rfl : 9 + 1 = 10) ?_
    refine hp_getI E hR in_X7 (hp_mono.c hm hc0) rfl 23 (Nat.le_of_ble_eq_true rfl) rfl q1284 (fun _ h => h) dX7_fault_10 (rfl : 10 + 3 = 13) ?_
    refine hp_goto E (tgt := 29) dX7_fault_13 (by decide) ?_
    exact b29 _ _ _ _ _ h (lv_sub hl [] rfl) hR hm
  · have h := h.2 hb
    refine hp_iload_n E hl 1 rfl 1 rfl dX7_fault_16 (rfl : 16 + 1 = 17) ?_
    refine hp_iconst E (1 : Int32) (by decide) dX7_fault_17 (rfl : 17 + 1 = 18) ?_
    refine hp_icmp_ne E dX7_fault_18 (rfl : 18 + 3 = 21) (tgt := 28) (by decide) (fun hb => ?_) (fun hb => ?_)
    · have h := h.1 hb
      refine hp_aload_n E hl 0 rfl 0 rfl dX7_fault_21 (rfl : 21 + 1 = 22) ?_
      refine hp_getI E hR in_X7 (hp_mono.c hm hc0) rfl 24 (Nat.le_of_ble_eq_true rfl) rfl q1285 (fun _ h => h) dX7_fault_22 (rfl : 22 + 3 = 25) ?_
      refine hp_goto E (tgt := 29) dX7_fault_25 (by decide) ?_
      exact b29 _ _ _ _ _ h (lv_sub hl [] rfl) hR hm
    · have h := h.2 hb
      refine hp_iconst E (-1 : Int32) (by decide) dX7_fault_28 (rfl : 28 + 1 = 29) ?_
      exact b29 _ _ _ _ _ h (lv_sub hl [] rfl) hR hm
def wb_X7_isIn_15 (a0 : Int32) (a1 : Int32) (a2 : Int32) (t0 : Int32) (S : hp_St) (Q : Int32 → Prop) : Prop := (t0 = 0 ∨ t0 = 1) ∧ Q t0
def wb_X7_isIn_14 (a0 : Int32) (a1 : Int32) (a2 : Int32) (S : hp_St) (Q : Int32 → Prop) : Prop := wb_X7_isIn_15 a0 a1 a2 (0 : Int32) S Q
def wp_X7_isIn (a0 : Int32) (a1 : Int32) (a2 : Int32) (S : hp_St) (Q : Int32 → Prop) : Prop := (((a0 < a1) → wb_X7_isIn_14 a0 a1 a2 S Q) ∧ ((¬ (a0 < a1)) → (((a0 ≤ a2) → wb_X7_isIn_15 a0 a1 a2 (1 : Int32) S Q) ∧ ((¬ (a0 ≤ a2)) → wb_X7_isIn_14 a0 a1 a2 S Q))))
theorem nf_X7_isIn : hp_nf yX7_isIn 3 = true := by decide +kernel
set_option maxHeartbeats 4000000 in
theorem m_X7_isIn {l : Launch} {B : Nat} {D : va_G} {s0 : State} {b0 : Nat} (G : hp_G l B D s0 b0) (a0 : Int32) (a1 : Int32) (a2 : Int32) (Si : hp_St) (Q : Int32 → Prop) (h : wp_X7_isIn a0 a1 a2 Si Q) : hp_M l B D s0 yX7_isIn cX7_isIn 3 (some .boolean) 2 128 0 0 [.int a0, .int a1, .int a2] Si (hp_Qi B D s0 (fun r S' => S' = Si ∧ Q r)) := by
  refine hp_start G (by decide +kernel) rfl rfl (lv := [(0, .int a0), (1, .int a1), (2, .int a2)]) (by simp [lg_sl, hp_vc, hp_ci, hp_cj]) (by simp [lv_args, hp_vc, hp_ci, hp_cj]) ?_
  intro p e s m args below meth c E ls hl hR
  generalize hH : s.heap = H at hR ⊢
  generalize hLo : ([] : List Loc) = locs at hR ⊢
  have b15 : ∀ (t0 : Int32) (H : Heap) (locs : List Loc) (ls : Array Slot), wb_X7_isIn_15 a0 a1 a2 t0 Si Q → lv_has ls 3 [] → hp_S B D s0 Si H locs → W p l e ({ frames := 2, cells := 0, slots := 0, locals := 128 } : Room) s m args below meth c H locs 0 0 (MQ below (hp_Qi B D s0 (fun r S' => S' = Si ∧ Q r)) args s 0 0 (fun q => B < q)) (F0 m 15 ls [.int t0]) := by
    intro t0 H locs ls h hl hR
    unfold wb_X7_isIn_15 at h
    obtain ⟨hz1501, h⟩ := h
    exact hp_zret E hR hz1501 ⟨rfl, h⟩ (Nat.le_of_ble_eq_true rfl) (Nat.le_of_ble_eq_true rfl) dX7_isIn_15
  have b14 : ∀ (H : Heap) (locs : List Loc) (ls : Array Slot), wb_X7_isIn_14 a0 a1 a2 Si Q → lv_has ls 3 [] → hp_S B D s0 Si H locs → W p l e ({ frames := 2, cells := 0, slots := 0, locals := 128 } : Room) s m args below meth c H locs 0 0 (MQ below (hp_Qi B D s0 (fun r S' => S' = Si ∧ Q r)) args s 0 0 (fun q => B < q)) (F0 m 14 ls []) := by
    intro  H locs ls h hl hR
    unfold wb_X7_isIn_14 at h
    refine hp_iconst E (0 : Int32) (by decide) dX7_isIn_14 (rfl : 14 + 1 = 15) ?_
    exact b15 _ _ _ _ h hl hR
  unfold wp_X7_isIn at h
  refine hp_iload_n E hl 0 rfl 0 rfl dX7_isIn_0 (rfl : 0 + 1 = 1) ?_
  refine hp_iload_n E hl 1 rfl 1 rfl dX7_isIn_1 (rfl : 1 + 1 = 2) ?_
  refine hp_icmp_lt E dX7_isIn_2 (rfl : 2 + 3 = 5) (tgt := 14) (by decide) (fun hb => ?_) (fun hb => ?_)
  · have h := h.1 hb
    exact b14 _ _ _ h (lv_sub hl [] rfl) hR
  · have h := h.2 hb
    refine hp_iload_n E hl 0 rfl 0 rfl dX7_isIn_5 (rfl : 5 + 1 = 6) ?_
    refine hp_iload_n E hl 2 rfl 2 rfl dX7_isIn_6 (rfl : 6 + 1 = 7) ?_
    refine hp_icmp_gt E dX7_isIn_7 (rfl : 7 + 3 = 10) (tgt := 14) (by decide) (fun hb => ?_) (fun hb => ?_)
    · have h := h.1 hb
      refine hp_iconst E (1 : Int32) (by decide) dX7_isIn_10 (rfl : 10 + 1 = 11) ?_
      refine hp_goto E (tgt := 15) dX7_isIn_11 (by decide) ?_
      exact b15 _ _ _ _ h (lv_sub hl [] rfl) hR
    · have h := h.2 hb
      exact b14 _ _ _ h (lv_sub hl [] rfl) hR
def wb_X7_halves_26 (o : Nat) (a1 : Int32) (S : hp_St) (Q : Int32 → hp_St → Prop) : Prop := Q (-1 : Int32) S
def wp_X7_halves (o : Nat) (a1 : Int32) (S : hp_St) (Q : Int32 → hp_St → Prop) : Prop := (∀ S1, S1 = st_pI S o 2 (0 : Int32) → wp_X7_isIn a1 (0 : Int32) (79 : Int32) S1 (fun z4 => (((z4 = 0) → wb_X7_halves_26 o a1 S1 Q) ∧ ((¬ (z4 = 0)) → (((((st_I S1 o 3) + a1) ≤ (79 : Int32)) → (∀ S5, S5 = st_pI S1 o 3 ((st_I S1 o 3) + a1) → Q (st_I S5 o 3) S5)) ∧ ((¬ (((st_I S1 o 3) + a1) ≤ (79 : Int32))) → wb_X7_halves_26 o a1 S1 Q))))))
theorem nf_X7_halves : hp_nf yX7_halves 1 = true := by decide +kernel
set_option maxHeartbeats 4000000 in
theorem m_X7_halves {l : Launch} {B : Nat} {D : va_G} {s0 : State} {b0 : Nat} (G : hp_G l B D s0 b0) (o : Nat) (a1 : Int32) (Si : hp_St) (Q : Int32 → hp_St → Prop) (hc0 : st_C Si o = 7) (h : wp_X7_halves o a1 Si Q) : hp_M l B D s0 yX7_halves cX7_halves 2 (some .int) 3 192 0 0 [hp_v B o, .int a1] Si (hp_Qi B D s0 (fun r S' => hp_mono Si S' ∧ Q r S')) := by
  refine hp_start G (by decide +kernel) rfl rfl (lv := [(0, hp_v B o), (1, .int a1)]) (by simp [lg_sl, hp_vc, hp_ci, hp_cj]) (by simp [lv_args, hp_vc, hp_ci, hp_cj]) ?_
  intro p e s m args below meth c E ls hl hR
  have hm : hp_mono Si Si := hp_mono.rf
  generalize hH : s.heap = H at hR ⊢
  generalize hLo : ([] : List Loc) = locs at hR ⊢
  have b26 : ∀ (S : hp_St) (H : Heap) (locs : List Loc) (ls : Array Slot), wb_X7_halves_26 o a1 S Q → lv_has ls 2 [] → hp_S B D s0 S H locs → hp_mono Si S → W p l e ({ frames := 3, cells := 0, slots := 0, locals := 192 } : Room) s m args below meth c H locs 0 0 (MQ below (hp_Qi B D s0 (fun r S' => hp_mono Si S' ∧ Q r S')) args s 0 0 (fun q => B < q)) (F0 m 26 ls []) := by
    intro S H locs ls h hl hR hm
    unfold wb_X7_halves_26 at h
    refine hp_iconst E (-1 : Int32) (by decide) dX7_halves_26 (rfl : 26 + 1 = 27) ?_
    exact hp_iret E hR ⟨hm, h⟩ (Nat.le_of_ble_eq_true rfl) (Nat.le_of_ble_eq_true rfl) dX7_halves_27
  unfold wp_X7_halves at h
  refine hp_aload_n E hl 0 rfl 0 rfl dX7_halves_0 (rfl : 0 + 1 = 1) ?_
  refine hp_iconst E (0 : Int32) (by decide) dX7_halves_1 (rfl : 1 + 1 = 2) ?_
  refine hx_putI E hR in_X7 tyX7 tyX7_ok nmX7 hc0 rfl 2 (Nat.le_of_ble_eq_true rfl) rfl q1263 (fun _ h => h) (Or.inl rfl) (Or.inl rfl) dX7_halves_2 (rfl : 2 + 3 = 5) (fun S1 H locs e3 hm2 hR => ?_)
  have h := h S1 e3
  have hm := hp_mono.tr hm hm2
  refine hp_iload_n E hl 1 rfl 1 rfl dX7_halves_5 (rfl : 5 + 1 = 6) ?_
  refine hp_iconst E (0 : Int32) (by decide) dX7_halves_6 (rfl : 6 + 1 = 7) ?_
  refine hp_bipush E (79 : Int32) (by decide) dX7_halves_7 (rfl : 7 + 2 = 9) ?_
  refine hp_fi (hp_rS E hR hl (m_X7_isIn G _ _ _ _ _ h) q1504 q1505 q82 q1506 nf_X7_isIn ⟨Nat.le_of_ble_eq_true rfl, Nat.le_of_ble_eq_true rfl⟩ (rest := []) rfl (Nat.le_of_ble_eq_true rfl) dX7_halves_9 ⟨Nat.le_of_ble_eq_true rfl, Nat.le_of_ble_eq_true rfl⟩) hR (rfl : 9 + 3 = 12) (fun z4 Sx H locs hq hR => ?_)
  obtain ⟨hSx, h⟩ := hq
  rw [hSx] at hR
  refine hp_if_eq E dX7_halves_12 (rfl : 12 + 3 = 15) (tgt := 26) (by decide) (fun hb => ?_) (fun hb => ?_)
  · have h := h.1 hb
    exact b26 _ _ _ _ h (lv_sub hl [] rfl) hR hm
  · have h := h.2 hb
    refine hp_aload_n E hl 0 rfl 0 rfl dX7_halves_15 (rfl : 15 + 1 = 16) ?_
    refine hp_getI E hR in_X7 (hp_mono.c hm hc0) rfl 3 (Nat.le_of_ble_eq_true rfl) rfl q1264 (fun _ h => h) dX7_halves_16 (rfl : 16 + 3 = 19) ?_
    refine hp_iload_n E hl 1 rfl 1 rfl dX7_halves_19 (rfl : 19 + 1 = 20) ?_
    refine hp_iadd E dX7_halves_20 (rfl : 20 + 1 = 21) ?_
    refine hp_bipush E (79 : Int32) (by decide) dX7_halves_21 (rfl : 21 + 2 = 23) ?_
    refine hp_icmp_le E dX7_halves_23 (rfl : 23 + 3 = 26) (tgt := 28) (by decide) (fun hb => ?_) (fun hb => ?_)
    · have h := h.1 hb
      refine hp_aload_n E hl 0 rfl 0 rfl dX7_halves_28 (rfl : 28 + 1 = 29) ?_
      refine hp_dup E hp_vc dX7_halves_29 (rfl : 29 + 1 = 30) ?_
      refine hp_getI E hR in_X7 (hp_mono.c hm hc0) rfl 3 (Nat.le_of_ble_eq_true rfl) rfl q1264 (fun _ h => h) dX7_halves_30 (rfl : 30 + 3 = 33) ?_
      refine hp_iload_n E hl 1 rfl 1 rfl dX7_halves_33 (rfl : 33 + 1 = 34) ?_
      refine hp_iadd E dX7_halves_34 (rfl : 34 + 1 = 35) ?_
      refine hx_putI E hR in_X7 tyX7 tyX7_ok nmX7 (hp_mono.c hm hc0) rfl 3 (Nat.le_of_ble_eq_true rfl) rfl q1264 (fun _ h => h) (Or.inl rfl) (Or.inl rfl) dX7_halves_35 (rfl : 35 + 3 = 38) (fun S5 H locs e7 hm6 hR => ?_)
      have h := h S5 e7
      have hm := hp_mono.tr hm hm6
      refine hp_aload_n E hl 0 rfl 0 rfl dX7_halves_38 (rfl : 38 + 1 = 39) ?_
      refine hp_getI E hR in_X7 (hp_mono.c hm hc0) rfl 3 (Nat.le_of_ble_eq_true rfl) rfl q1264 (fun _ h => h) dX7_halves_39 (rfl : 39 + 3 = 42) ?_
      exact hp_iret E hR ⟨hm, h⟩ (Nat.le_of_ble_eq_true rfl) (Nat.le_of_ble_eq_true rfl) dX7_halves_42
    · have h := h.2 hb
      exact b26 _ _ _ _ h (lv_sub hl [] rfl) hR hm
def wb_X7_life_37 (o : Nat) (a1 : Int32) (a2 : Int32) (S : hp_St) (Q : Int32 → hp_St → Prop) : Prop := Q (-1 : Int32) S
def wp_X7_life (o : Nat) (a1 : Int32) (a2 : Int32) (S : hp_St) (Q : Int32 → hp_St → Prop) : Prop := (∀ S1, S1 = st_pI S o 2 (0 : Int32) → ((((st_I S1 o 4) = (12 : Int32)) → wb_X7_life_37 o a1 a2 S1 Q) ∧ ((¬ ((st_I S1 o 4) = (12 : Int32))) → wp_X7_isIn a1 (-160 : Int32) (st_I S1 o 3) S1 (fun z4 => (((z4 = 0) → wb_X7_life_37 o a1 a2 S1 Q) ∧ ((¬ (z4 = 0)) → wp_X7_isIn a2 (0 : Int32) (3 : Int32) S1 (fun z5 => (((z5 = 0) → wb_X7_life_37 o a1 a2 S1 Q) ∧ ((¬ (z5 = 0)) → (st_C S1 (st_R S1 o 5) = 50) ∧ (vp_in (st_I S1 o 4) (st_L S1 (st_R S1 o 5))) ∧ (∀ S8, S8 = st_pI S1 (st_R S1 o 5) (st_I S1 o 4).toNatClampNeg a1 → (st_C S8 (st_R S8 o 6) = 50) ∧ (vp_in (st_I S8 o 4) (st_L S8 (st_R S8 o 6))) ∧ (∀ S13, S13 = st_pI S8 (st_R S8 o 6) (st_I S8 o 4).toNatClampNeg a2 → (∀ S16, S16 = st_pI S13 o 4 ((st_I S13 o 4) + (1 : Int32)) → Q ((st_I S16 o 4) - (1 : Int32)) S16))))))))))))
theorem nf_X7_life : hp_nf yX7_life 2 = true := by decide +kernel
set_option maxHeartbeats 4000000 in
theorem m_X7_life {l : Launch} {B : Nat} {D : va_G} {s0 : State} {b0 : Nat} (G : hp_G l B D s0 b0) (o : Nat) (a1 : Int32) (a2 : Int32) (Si : hp_St) (Q : Int32 → hp_St → Prop) (hc0 : st_C Si o = 7) (h : wp_X7_life o a1 a2 Si Q) : hp_M l B D s0 yX7_life cX7_life 3 (some .int) 3 192 0 0 [hp_v B o, .int a1, .int a2] Si (hp_Qi B D s0 (fun r S' => hp_mono Si S' ∧ Q r S')) := by
  refine hp_start G (by decide +kernel) rfl rfl (lv := [(0, hp_v B o), (1, .int a1), (2, .int a2)]) (by simp [lg_sl, hp_vc, hp_ci, hp_cj]) (by simp [lv_args, hp_vc, hp_ci, hp_cj]) ?_
  intro p e s m args below meth c E ls hl hR
  have hm : hp_mono Si Si := hp_mono.rf
  generalize hH : s.heap = H at hR ⊢
  generalize hLo : ([] : List Loc) = locs at hR ⊢
  have b37 : ∀ (S : hp_St) (H : Heap) (locs : List Loc) (ls : Array Slot), wb_X7_life_37 o a1 a2 S Q → lv_has ls 3 [] → hp_S B D s0 S H locs → hp_mono Si S → W p l e ({ frames := 3, cells := 0, slots := 0, locals := 192 } : Room) s m args below meth c H locs 0 0 (MQ below (hp_Qi B D s0 (fun r S' => hp_mono Si S' ∧ Q r S')) args s 0 0 (fun q => B < q)) (F0 m 37 ls []) := by
    intro S H locs ls h hl hR hm
    unfold wb_X7_life_37 at h
    refine hp_iconst E (-1 : Int32) (by decide) dX7_life_37 (rfl : 37 + 1 = 38) ?_
    exact hp_iret E hR ⟨hm, h⟩ (Nat.le_of_ble_eq_true rfl) (Nat.le_of_ble_eq_true rfl) dX7_life_38
  unfold wp_X7_life at h
  refine hp_aload_n E hl 0 rfl 0 rfl dX7_life_0 (rfl : 0 + 1 = 1) ?_
  refine hp_iconst E (0 : Int32) (by decide) dX7_life_1 (rfl : 1 + 1 = 2) ?_
  refine hx_putI E hR in_X7 tyX7 tyX7_ok nmX7 hc0 rfl 2 (Nat.le_of_ble_eq_true rfl) rfl q1263 (fun _ h => h) (Or.inl rfl) (Or.inl rfl) dX7_life_2 (rfl : 2 + 3 = 5) (fun S1 H locs e3 hm2 hR => ?_)
  have h := h S1 e3
  have hm := hp_mono.tr hm hm2
  refine hp_aload_n E hl 0 rfl 0 rfl dX7_life_5 (rfl : 5 + 1 = 6) ?_
  refine hp_getI E hR in_X7 (hp_mono.c hm hc0) rfl 4 (Nat.le_of_ble_eq_true rfl) rfl q1265 (fun _ h => h) dX7_life_6 (rfl : 6 + 3 = 9) ?_
  refine hp_bipush E (12 : Int32) (by decide) dX7_life_9 (rfl : 9 + 2 = 11) ?_
  refine hp_icmp_eq E dX7_life_11 (rfl : 11 + 3 = 14) (tgt := 37) (by decide) (fun hb => ?_) (fun hb => ?_)
  · have h := h.1 hb
    exact b37 _ _ _ _ h (lv_sub hl [] rfl) hR hm
  · have h := h.2 hb
    refine hp_iload_n E hl 1 rfl 1 rfl dX7_life_14 (rfl : 14 + 1 = 15) ?_
    refine hp_sipush E (-160 : Int32) (by decide) dX7_life_15 (rfl : 15 + 3 = 18) ?_
    refine hp_aload_n E hl 0 rfl 0 rfl dX7_life_18 (rfl : 18 + 1 = 19) ?_
    refine hp_getI E hR in_X7 (hp_mono.c hm hc0) rfl 3 (Nat.le_of_ble_eq_true rfl) rfl q1264 (fun _ h => h) dX7_life_19 (rfl : 19 + 3 = 22) ?_
    refine hp_fi (hp_rS E hR hl (m_X7_isIn G _ _ _ _ _ h) q1504 q1505 q82 q1506 nf_X7_isIn ⟨Nat.le_of_ble_eq_true rfl, Nat.le_of_ble_eq_true rfl⟩ (rest := []) rfl (Nat.le_of_ble_eq_true rfl) dX7_life_22 ⟨Nat.le_of_ble_eq_true rfl, Nat.le_of_ble_eq_true rfl⟩) hR (rfl : 22 + 3 = 25) (fun z4 Sx H locs hq hR => ?_)
    obtain ⟨hSx, h⟩ := hq
    rw [hSx] at hR
    refine hp_if_eq E dX7_life_25 (rfl : 25 + 3 = 28) (tgt := 37) (by decide) (fun hb => ?_) (fun hb => ?_)
    · have h := h.1 hb
      exact b37 _ _ _ _ h (lv_sub hl [] rfl) hR hm
    · have h := h.2 hb
      refine hp_iload_n E hl 2 rfl 2 rfl dX7_life_28 (rfl : 28 + 1 = 29) ?_
      refine hp_iconst E (0 : Int32) (by decide) dX7_life_29 (rfl : 29 + 1 = 30) ?_
      refine hp_iconst E (3 : Int32) (by decide) dX7_life_30 (rfl : 30 + 1 = 31) ?_
      refine hp_fi (hp_rS E hR hl (m_X7_isIn G _ _ _ _ _ h) q1504 q1505 q82 q1506 nf_X7_isIn ⟨Nat.le_of_ble_eq_true rfl, Nat.le_of_ble_eq_true rfl⟩ (rest := []) rfl (Nat.le_of_ble_eq_true rfl) dX7_life_31 ⟨Nat.le_of_ble_eq_true rfl, Nat.le_of_ble_eq_true rfl⟩) hR (rfl : 31 + 3 = 34) (fun z5 Sx H locs hq hR => ?_)
      obtain ⟨hSx, h⟩ := hq
      rw [hSx] at hR
      refine hp_if_ne E dX7_life_34 (rfl : 34 + 3 = 37) (tgt := 39) (by decide) (fun hb => ?_) (fun hb => ?_)
      · have h := h.1 hb
        exact b37 _ _ _ _ h (lv_sub hl [] rfl) hR hm
      · have h := h.2 hb
        refine hp_aload_n E hl 0 rfl 0 rfl dX7_life_39 (rfl : 39 + 1 = 40) ?_
        refine hp_getR E hR in_X7 (hp_mono.c hm hc0) rfl 5 (Nat.le_of_ble_eq_true rfl) rfl q1266 (fun _ h => h) dX7_life_40 (rfl : 40 + 3 = 43) ?_
        refine hp_aload_n E hl 0 rfl 0 rfl dX7_life_43 (rfl : 43 + 1 = 44) ?_
        refine hp_getI E hR in_X7 (hp_mono.c hm hc0) rfl 4 (Nat.le_of_ble_eq_true rfl) rfl q1265 (fun _ h => h) dX7_life_44 (rfl : 44 + 3 = 47) ?_
        refine hp_iload_n E hl 1 rfl 1 rfl dX7_life_47 (rfl : 47 + 1 = 48) ?_
        obtain ⟨hc6, h⟩ := h
        obtain ⟨hi7, h⟩ := h
        refine hx_iast E hR hc6 hi7 dX7_life_48 (rfl : 48 + 1 = 49) (fun S8 H locs e10 hm9 hR => ?_)
        have h := h S8 e10
        have hm := hp_mono.tr hm hm9
        refine hp_aload_n E hl 0 rfl 0 rfl dX7_life_49 (rfl : 49 + 1 = 50) ?_
        refine hp_getR E hR in_X7 (hp_mono.c hm hc0) rfl 6 (Nat.le_of_ble_eq_true rfl) rfl q1267 (fun _ h => h) dX7_life_50 (rfl : 50 + 3 = 53) ?_
        refine hp_aload_n E hl 0 rfl 0 rfl dX7_life_53 (rfl : 53 + 1 = 54) ?_
        refine hp_getI E hR in_X7 (hp_mono.c hm hc0) rfl 4 (Nat.le_of_ble_eq_true rfl) rfl q1265 (fun _ h => h) dX7_life_54 (rfl : 54 + 3 = 57) ?_
        refine hp_iload_n E hl 2 rfl 2 rfl dX7_life_57 (rfl : 57 + 1 = 58) ?_
        obtain ⟨hc11, h⟩ := h
        obtain ⟨hi12, h⟩ := h
        refine hx_iast E hR hc11 hi12 dX7_life_58 (rfl : 58 + 1 = 59) (fun S13 H locs e15 hm14 hR => ?_)
        have h := h S13 e15
        have hm := hp_mono.tr hm hm14
        refine hp_aload_n E hl 0 rfl 0 rfl dX7_life_59 (rfl : 59 + 1 = 60) ?_
        refine hp_dup E hp_vc dX7_life_60 (rfl : 60 + 1 = 61) ?_
        refine hp_getI E hR in_X7 (hp_mono.c hm hc0) rfl 4 (Nat.le_of_ble_eq_true rfl) rfl q1265 (fun _ h => h) dX7_life_61 (rfl : 61 + 3 = 64) ?_
        refine hp_iconst E (1 : Int32) (by decide) dX7_life_64 (rfl : 64 + 1 = 65) ?_
        refine hp_iadd E dX7_life_65 (rfl : 65 + 1 = 66) ?_
        refine hx_putI E hR in_X7 tyX7 tyX7_ok nmX7 (hp_mono.c hm hc0) rfl 4 (Nat.le_of_ble_eq_true rfl) rfl q1265 (fun _ h => h) (Or.inl rfl) (Or.inl rfl) dX7_life_66 (rfl : 66 + 3 = 69) (fun S16 H locs e18 hm17 hR => ?_)
        have h := h S16 e18
        have hm := hp_mono.tr hm hm17
        refine hp_aload_n E hl 0 rfl 0 rfl dX7_life_69 (rfl : 69 + 1 = 70) ?_
        refine hp_getI E hR in_X7 (hp_mono.c hm hc0) rfl 4 (Nat.le_of_ble_eq_true rfl) rfl q1265 (fun _ h => h) dX7_life_70 (rfl : 70 + 3 = 73) ?_
        refine hp_iconst E (1 : Int32) (by decide) dX7_life_73 (rfl : 73 + 1 = 74) ?_
        refine hp_isub E dX7_life_74 (rfl : 74 + 1 = 75) ?_
        exact hp_iret E hR ⟨hm, h⟩ (Nat.le_of_ble_eq_true rfl) (Nat.le_of_ble_eq_true rfl) dX7_life_75
def wb_X7_isLife_17 (o : Nat) (a1 : Int32) (t0 : Int32) (S : hp_St) (Q : Int32 → Prop) : Prop := (t0 = 0 ∨ t0 = 1) ∧ Q t0
def wb_X7_isLife_16 (o : Nat) (a1 : Int32) (S : hp_St) (Q : Int32 → Prop) : Prop := wb_X7_isLife_17 o a1 (0 : Int32) S Q
def wp_X7_isLife (o : Nat) (a1 : Int32) (S : hp_St) (Q : Int32 → Prop) : Prop := (((a1 < 0) → wb_X7_isLife_16 o a1 S Q) ∧ ((¬ (a1 < 0)) → (((a1 < (st_I S o 4)) → wb_X7_isLife_17 o a1 (1 : Int32) S Q) ∧ ((¬ (a1 < (st_I S o 4))) → wb_X7_isLife_16 o a1 S Q))))
theorem nf_X7_isLife : hp_nf yX7_isLife 1 = true := by decide +kernel
set_option maxHeartbeats 4000000 in
theorem m_X7_isLife {l : Launch} {B : Nat} {D : va_G} {s0 : State} {b0 : Nat} (G : hp_G l B D s0 b0) (o : Nat) (a1 : Int32) (Si : hp_St) (Q : Int32 → Prop) (hc0 : st_C Si o = 7) (h : wp_X7_isLife o a1 Si Q) : hp_M l B D s0 yX7_isLife cX7_isLife 2 (some .boolean) 2 128 0 0 [hp_v B o, .int a1] Si (hp_Qi B D s0 (fun r S' => S' = Si ∧ Q r)) := by
  refine hp_start G (by decide +kernel) rfl rfl (lv := [(0, hp_v B o), (1, .int a1)]) (by simp [lg_sl, hp_vc, hp_ci, hp_cj]) (by simp [lv_args, hp_vc, hp_ci, hp_cj]) ?_
  intro p e s m args below meth c E ls hl hR
  generalize hH : s.heap = H at hR ⊢
  generalize hLo : ([] : List Loc) = locs at hR ⊢
  have b17 : ∀ (t0 : Int32) (H : Heap) (locs : List Loc) (ls : Array Slot), wb_X7_isLife_17 o a1 t0 Si Q → lv_has ls 2 [] → hp_S B D s0 Si H locs → W p l e ({ frames := 2, cells := 0, slots := 0, locals := 128 } : Room) s m args below meth c H locs 0 0 (MQ below (hp_Qi B D s0 (fun r S' => S' = Si ∧ Q r)) args s 0 0 (fun q => B < q)) (F0 m 17 ls [.int t0]) := by
    intro t0 H locs ls h hl hR
    unfold wb_X7_isLife_17 at h
    obtain ⟨hz1701, h⟩ := h
    exact hp_zret E hR hz1701 ⟨rfl, h⟩ (Nat.le_of_ble_eq_true rfl) (Nat.le_of_ble_eq_true rfl) dX7_isLife_17
  have b16 : ∀ (H : Heap) (locs : List Loc) (ls : Array Slot), wb_X7_isLife_16 o a1 Si Q → lv_has ls 2 [] → hp_S B D s0 Si H locs → W p l e ({ frames := 2, cells := 0, slots := 0, locals := 128 } : Room) s m args below meth c H locs 0 0 (MQ below (hp_Qi B D s0 (fun r S' => S' = Si ∧ Q r)) args s 0 0 (fun q => B < q)) (F0 m 16 ls []) := by
    intro  H locs ls h hl hR
    unfold wb_X7_isLife_16 at h
    refine hp_iconst E (0 : Int32) (by decide) dX7_isLife_16 (rfl : 16 + 1 = 17) ?_
    exact b17 _ _ _ _ h hl hR
  unfold wp_X7_isLife at h
  refine hp_iload_n E hl 1 rfl 1 rfl dX7_isLife_0 (rfl : 0 + 1 = 1) ?_
  refine hp_if_lt E dX7_isLife_1 (rfl : 1 + 3 = 4) (tgt := 16) (by decide) (fun hb => ?_) (fun hb => ?_)
  · have h := h.1 hb
    exact b16 _ _ _ h (lv_sub hl [] rfl) hR
  · have h := h.2 hb
    refine hp_iload_n E hl 1 rfl 1 rfl dX7_isLife_4 (rfl : 4 + 1 = 5) ?_
    refine hp_aload_n E hl 0 rfl 0 rfl dX7_isLife_5 (rfl : 5 + 1 = 6) ?_
    refine hp_getI E hR in_X7 hc0 rfl 4 (Nat.le_of_ble_eq_true rfl) rfl q1265 (fun _ h => h) dX7_isLife_6 (rfl : 6 + 3 = 9) ?_
    refine hp_icmp_ge E dX7_isLife_9 (rfl : 9 + 3 = 12) (tgt := 16) (by decide) (fun hb => ?_) (fun hb => ?_)
    · have h := h.1 hb
      refine hp_iconst E (1 : Int32) (by decide) dX7_isLife_12 (rfl : 12 + 1 = 13) ?_
      refine hp_goto E (tgt := 17) dX7_isLife_13 (by decide) ?_
      exact b17 _ _ _ _ h (lv_sub hl [] rfl) hR
    · have h := h.2 hb
      exact b16 _ _ _ h (lv_sub hl [] rfl) hR
def wp_X7_ageIn (o : Nat) (a1 : Int32) (a2 : Int32) (S : hp_St) (Q : Int32 → Prop) : Prop := (st_C S (st_R S o 5) = 50) ∧ (vp_in a1 (st_L S (st_R S o 5))) ∧ Q ((a2 - (st_I S (st_R S o 5) a1.toNatClampNeg)) / (2 : Int32))
theorem nf_X7_ageIn : hp_nf yX7_ageIn 2 = true := by decide +kernel
set_option maxHeartbeats 4000000 in
theorem m_X7_ageIn {l : Launch} {B : Nat} {D : va_G} {s0 : State} {b0 : Nat} (G : hp_G l B D s0 b0) (o : Nat) (a1 : Int32) (a2 : Int32) (Si : hp_St) (Q : Int32 → Prop) (hc0 : st_C Si o = 7) (h : wp_X7_ageIn o a1 a2 Si Q) : hp_M l B D s0 yX7_ageIn cX7_ageIn 3 (some .int) 2 128 0 0 [hp_v B o, .int a1, .int a2] Si (hp_Qi B D s0 (fun r S' => S' = Si ∧ Q r)) := by
  refine hp_start G (by decide +kernel) rfl rfl (lv := [(0, hp_v B o), (1, .int a1), (2, .int a2)]) (by simp [lg_sl, hp_vc, hp_ci, hp_cj]) (by simp [lv_args, hp_vc, hp_ci, hp_cj]) ?_
  intro p e s m args below meth c E ls hl hR
  unfold wp_X7_ageIn at h
  refine hp_iload_n E hl 2 rfl 2 rfl dX7_ageIn_0 (rfl : 0 + 1 = 1) ?_
  refine hp_aload_n E hl 0 rfl 0 rfl dX7_ageIn_1 (rfl : 1 + 1 = 2) ?_
  refine hp_getR E hR in_X7 hc0 rfl 5 (Nat.le_of_ble_eq_true rfl) rfl q1266 (fun _ h => h) dX7_ageIn_2 (rfl : 2 + 3 = 5) ?_
  refine hp_iload_n E hl 1 rfl 1 rfl dX7_ageIn_5 (rfl : 5 + 1 = 6) ?_
  obtain ⟨hc1, h⟩ := h
  obtain ⟨hi2, h⟩ := h
  refine hp_iald E hR hc1 hi2 dX7_ageIn_6 (rfl : 6 + 1 = 7) ?_
  refine hp_isub E dX7_ageIn_7 (rfl : 7 + 1 = 8) ?_
  refine hp_iconst E (2 : Int32) (by decide) dX7_ageIn_8 (rfl : 8 + 1 = 9) ?_
  refine hp_idiv E (by decide) dX7_ageIn_9 (rfl : 9 + 1 = 10) ?_
  exact hp_iret E hR ⟨rfl, h⟩ (Nat.le_of_ble_eq_true rfl) (Nat.le_of_ble_eq_true rfl) dX7_ageIn_10
def wb_X7_actOf_237 (o : Nat) (a1 : Int32) (a2 : Int32) (a3 : Int32) (a4 : Int32) (a5 : Int32) (t0 : Int32) (S : hp_St) (Q : Int32 → Prop) : Prop := Q t0
def wb_X7_actOf_207 (o : Nat) (a1 : Int32) (a2 : Int32) (a3 : Int32) (a4 : Int32) (a5 : Int32) (v6 : Int32) (v7 : Int32) (v8 : Int32) (t0 : Int32) (S : hp_St) (K47 : Int32 → Prop) (Q : Int32 → Prop) : Prop := (((t0 = 0) → K47 (v8 + (-1 : Int32))) ∧ ((¬ (t0 = 0)) → (((a1 = 0) → (st_C S (st_R S o 30) = 50) ∧ (vp_in v8 (st_L S (st_R S o 30))) ∧ wb_X7_actOf_237 o a1 a2 a3 a4 a5 ((1 : Int32) - (st_I S (st_R S o 30) v8.toNatClampNeg)) S Q) ∧ ((¬ (a1 = 0)) → (st_C S (st_R S o 31) = 50) ∧ (vp_in v8 (st_L S (st_R S o 31))) ∧ wb_X7_actOf_237 o a1 a2 a3 a4 a5 (st_I S (st_R S o 31) v8.toNatClampNeg) S Q))))
def wb_X7_actOf_206 (o : Nat) (a1 : Int32) (a2 : Int32) (a3 : Int32) (a4 : Int32) (a5 : Int32) (v6 : Int32) (v7 : Int32) (v8 : Int32) (S : hp_St) (K47 : Int32 → Prop) (Q : Int32 → Prop) : Prop := wb_X7_actOf_207 o a1 a2 a3 a4 a5 v6 v7 v8 (0 : Int32) S K47 Q
def wb_X7_actOf_202 (o : Nat) (a1 : Int32) (a2 : Int32) (a3 : Int32) (a4 : Int32) (a5 : Int32) (v6 : Int32) (v7 : Int32) (v8 : Int32) (S : hp_St) (K47 : Int32 → Prop) (Q : Int32 → Prop) : Prop := wb_X7_actOf_207 o a1 a2 a3 a4 a5 v6 v7 v8 (1 : Int32) S K47 Q
def wb_X7_actOf_199 (o : Nat) (a1 : Int32) (a2 : Int32) (a3 : Int32) (a4 : Int32) (a5 : Int32) (v6 : Int32) (v7 : Int32) (v8 : Int32) (t0 : Int32) (t1 : Int32) (S : hp_St) (K47 : Int32 → Prop) (Q : Int32 → Prop) : Prop := (((t0 = t1) → wb_X7_actOf_202 o a1 a2 a3 a4 a5 v6 v7 v8 S K47 Q) ∧ ((¬ (t0 = t1)) → wb_X7_actOf_206 o a1 a2 a3 a4 a5 v6 v7 v8 S K47 Q))
def wb_X7_actOf_189 (o : Nat) (a1 : Int32) (a2 : Int32) (a3 : Int32) (a4 : Int32) (a5 : Int32) (v6 : Int32) (v7 : Int32) (v8 : Int32) (t0 : Int32) (S : hp_St) (K47 : Int32 → Prop) (Q : Int32 → Prop) : Prop := (((a3 = (-1 : Int32)) → wb_X7_actOf_199 o a1 a2 a3 a4 a5 v6 v7 v8 t0 (0 : Int32) S K47 Q) ∧ ((¬ (a3 = (-1 : Int32))) → wb_X7_actOf_199 o a1 a2 a3 a4 a5 v6 v7 v8 t0 (1 : Int32) S K47 Q))
def wb_X7_actOf_91 (o : Nat) (a1 : Int32) (a2 : Int32) (a3 : Int32) (a4 : Int32) (a5 : Int32) (v6 : Int32) (v7 : Int32) (v8 : Int32) (t0 : Int32) (S : hp_St) (K47 : Int32 → Prop) (Q : Int32 → Prop) : Prop := (((t0 = 0) → wb_X7_actOf_206 o a1 a2 a3 a4 a5 v6 v7 v8 S K47 Q) ∧ ((¬ (t0 = 0)) → (st_C S (st_R S o 32) = 50) ∧ (vp_in v8 (st_L S (st_R S o 32))) ∧ (st_C S (st_R S o 33) = 50) ∧ (vp_in v8 (st_L S (st_R S o 33))) ∧ wp_X7_isIn v7 (st_I S (st_R S o 32) v8.toNatClampNeg) (st_I S (st_R S o 33) v8.toNatClampNeg) S (fun z9105 => (((z9105 = 0) → wb_X7_actOf_206 o a1 a2 a3 a4 a5 v6 v7 v8 S K47 Q) ∧ ((¬ (z9105 = 0)) → (st_C S (st_R S o 34) = 50) ∧ (vp_in v8 (st_L S (st_R S o 34))) ∧ (st_C S (st_R S o 6) = 50) ∧ (vp_in v6 (st_L S (st_R S o 6))) ∧ ((((((st_I S (st_R S o 34) v8.toNatClampNeg) >>> ((st_I S (st_R S o 6) v6.toNatClampNeg) &&& 31)) &&& (1 : Int32)) = (1 : Int32)) → (st_C S (st_R S o 35) = 50) ∧ (vp_in v8 (st_L S (st_R S o 35))) ∧ (st_C S (st_R S o 36) = 50) ∧ (vp_in v8 (st_L S (st_R S o 36))) ∧ wp_X7_isIn a4 (st_I S (st_R S o 35) v8.toNatClampNeg) (st_I S (st_R S o 36) v8.toNatClampNeg) S (fun z9114 => (((z9114 = 0) → wb_X7_actOf_206 o a1 a2 a3 a4 a5 v6 v7 v8 S K47 Q) ∧ ((¬ (z9114 = 0)) → (st_C S (st_R S o 37) = 50) ∧ (vp_in v8 (st_L S (st_R S o 37))) ∧ ((((st_I S (st_R S o 37) v8.toNatClampNeg) = 0) → wb_X7_actOf_202 o a1 a2 a3 a4 a5 v6 v7 v8 S K47 Q) ∧ ((¬ ((st_I S (st_R S o 37) v8.toNatClampNeg) = 0)) → (vp_in v8 (st_L S (st_R S o 37))) ∧ ((((st_I S (st_R S o 37) v8.toNatClampNeg) = (1 : Int32)) → wb_X7_actOf_189 o a1 a2 a3 a4 a5 v6 v7 v8 (1 : Int32) S K47 Q) ∧ ((¬ ((st_I S (st_R S o 37) v8.toNatClampNeg) = (1 : Int32))) → wb_X7_actOf_189 o a1 a2 a3 a4 a5 v6 v7 v8 (0 : Int32) S K47 Q)))))))) ∧ ((¬ ((((st_I S (st_R S o 34) v8.toNatClampNeg) >>> ((st_I S (st_R S o 6) v6.toNatClampNeg) &&& 31)) &&& (1 : Int32)) = (1 : Int32))) → wb_X7_actOf_206 o a1 a2 a3 a4 a5 v6 v7 v8 S K47 Q)))))))
def wb_X7_actOf_47 (o : Nat) (a1 : Int32) (a2 : Int32) (a3 : Int32) (a4 : Int32) (a5 : Int32) (v6 : Int32) (v7 : Int32) (v8 : Int32) (S : hp_St) (K47 : Int32 → Prop) (Q : Int32 → Prop) : Prop := (((v8 < 0) → Q a5) ∧ ((¬ (v8 < 0)) → (((a1 = 0) → (st_C S (st_R S o 30) = 50) ∧ (vp_in v8 (st_L S (st_R S o 30))) ∧ ((((st_I S (st_R S o 30) v8.toNatClampNeg) ≤ (1 : Int32)) → wb_X7_actOf_91 o a1 a2 a3 a4 a5 v6 v7 v8 (1 : Int32) S K47 Q) ∧ ((¬ ((st_I S (st_R S o 30) v8.toNatClampNeg) ≤ (1 : Int32))) → wb_X7_actOf_91 o a1 a2 a3 a4 a5 v6 v7 v8 (0 : Int32) S K47 Q))) ∧ ((¬ (a1 = 0)) → (st_C S (st_R S o 30) = 50) ∧ (vp_in v8 (st_L S (st_R S o 30))) ∧ ((((st_I S (st_R S o 30) v8.toNatClampNeg) = a1) → wb_X7_actOf_91 o a1 a2 a3 a4 a5 v6 v7 v8 (1 : Int32) S K47 Q) ∧ ((¬ ((st_I S (st_R S o 30) v8.toNatClampNeg) = a1)) → wb_X7_actOf_91 o a1 a2 a3 a4 a5 v6 v7 v8 (0 : Int32) S K47 Q))))))
def wl_X7_actOf_47 (o : Nat) (a1 : Int32) (a2 : Int32) (a3 : Int32) (a4 : Int32) (a5 : Int32) (v6 : Int32) (v7 : Int32) (v8 : Int32) (S : hp_St) (Q : Int32 → Prop) : Prop := ∃ (I : Int32 → Prop) (μ : Int32 → Nat), I v8 ∧ ∀ (v8 : Int32), I v8 → wb_X7_actOf_47 o a1 a2 a3 a4 a5 v6 v7 v8 S (fun v8' => I v8' ∧ μ v8' < μ v8) Q
def wb_X7_actOf_27 (o : Nat) (a1 : Int32) (a2 : Int32) (a3 : Int32) (a4 : Int32) (a5 : Int32) (t0 : Int32) (S : hp_St) (Q : Int32 → Prop) : Prop := wp_X7_ageIn o t0 a4 S (fun z2701 => wl_X7_actOf_47 o a1 a2 a3 a4 a5 t0 z2701 ((st_I S o 38) - (1 : Int32)) S Q)
def wb_X7_actOf_22 (o : Nat) (a1 : Int32) (a2 : Int32) (a3 : Int32) (a4 : Int32) (a5 : Int32) (S : hp_St) (Q : Int32 → Prop) : Prop := wb_X7_actOf_27 o a1 a2 a3 a4 a5 a2 S Q
def wp_X7_actOf (o : Nat) (a1 : Int32) (a2 : Int32) (a3 : Int32) (a4 : Int32) (a5 : Int32) (S : hp_St) (Q : Int32 → Prop) : Prop := (((a3 = (-1 : Int32)) → wb_X7_actOf_22 o a1 a2 a3 a4 a5 S Q) ∧ ((¬ (a3 = (-1 : Int32))) → wp_X7_ageIn o a2 a4 S (fun z1 => wp_X7_ageIn o a3 a4 S (fun z2 => (((z1 ≤ z2) → wb_X7_actOf_22 o a1 a2 a3 a4 a5 S Q) ∧ ((¬ (z1 ≤ z2)) → wb_X7_actOf_27 o a1 a2 a3 a4 a5 a3 S Q))))))
theorem nf_X7_actOf : hp_nf yX7_actOf 5 = true := by decide +kernel
set_option maxHeartbeats 4000000 in
theorem m_X7_actOf {l : Launch} {B : Nat} {D : va_G} {s0 : State} {b0 : Nat} (G : hp_G l B D s0 b0) (o : Nat) (a1 : Int32) (a2 : Int32) (a3 : Int32) (a4 : Int32) (a5 : Int32) (Si : hp_St) (Q : Int32 → Prop) (hc0 : st_C Si o = 7) (h : wp_X7_actOf o a1 a2 a3 a4 a5 Si Q) : hp_M l B D s0 yX7_actOf cX7_actOf 11 (some .int) 3 192 0 0 [hp_v B o, .int a1, .int a2, .int a3, .int a4, .int a5] Si (hp_Qi B D s0 (fun r S' => S' = Si ∧ Q r)) := by
  refine hp_start G (by decide +kernel) rfl rfl (lv := [(0, hp_v B o), (1, .int a1), (2, .int a2), (3, .int a3), (4, .int a4), (5, .int a5)]) (by simp [lg_sl, hp_vc, hp_ci, hp_cj]) (by simp [lv_args, hp_vc, hp_ci, hp_cj]) ?_
  intro p e s m args below meth c E ls hl hR
  generalize hH : s.heap = H at hR ⊢
  generalize hLo : ([] : List Loc) = locs at hR ⊢
  have b237 : ∀ (t0 : Int32) (H : Heap) (locs : List Loc) (ls : Array Slot), wb_X7_actOf_237 o a1 a2 a3 a4 a5 t0 Si Q → lv_has ls 11 [] → hp_S B D s0 Si H locs → W p l e ({ frames := 3, cells := 0, slots := 0, locals := 192 } : Room) s m args below meth c H locs 0 0 (MQ below (hp_Qi B D s0 (fun r S' => S' = Si ∧ Q r)) args s 0 0 (fun q => B < q)) (F0 m 237 ls [.int t0]) := by
    intro t0 H locs ls h hl hR
    unfold wb_X7_actOf_237 at h
    exact hp_iret E hR ⟨rfl, h⟩ (Nat.le_of_ble_eq_true rfl) (Nat.le_of_ble_eq_true rfl) dX7_actOf_237
  have b47 : ∀ (v6 : Int32) (v7 : Int32) (v8 : Int32) (H : Heap) (locs : List Loc) (ls : Array Slot), wl_X7_actOf_47 o a1 a2 a3 a4 a5 v6 v7 v8 Si Q → lv_has ls 11 [(0, hp_v B o), (1, .int a1), (3, .int a3), (4, .int a4), (5, .int a5), (6, .int v6), (7, .int v7), (8, .int v8)] → hp_S B D s0 Si H locs → W p l e ({ frames := 3, cells := 0, slots := 0, locals := 192 } : Room) s m args below meth c H locs 0 0 (MQ below (hp_Qi B D s0 (fun r S' => S' = Si ∧ Q r)) args s 0 0 (fun q => B < q)) (F0 m 47 ls []) := by
    intro v6 v7 v8 H locs ls h hl hR
    obtain ⟨I47, μ47, hI, hst⟩ := h
    have key47 : ∀ (N : Nat) (v8 : Int32) (H : Heap) (locs : List Loc) (ls : Array Slot), μ47 v8 < N → I47 v8 → lv_has ls 11 [(0, hp_v B o), (1, .int a1), (3, .int a3), (4, .int a4), (5, .int a5), (6, .int v6), (7, .int v7), (8, .int v8)] → hp_S B D s0 Si H locs → W p l e ({ frames := 3, cells := 0, slots := 0, locals := 192 } : Room) s m args below meth c H locs 0 0 (MQ below (hp_Qi B D s0 (fun r S' => S' = Si ∧ Q r)) args s 0 0 (fun q => B < q)) (F0 m 47 ls []) := by
      intro N
      induction N with
      | zero =>
        intro v8 H locs ls hN
        exact absurd hN (Nat.not_lt_zero _)
      | succ N ih47 =>
        intro v8 H locs ls hN hI hl hR
        have h := hst v8 hI
        obtain ⟨K47, hKe47⟩ : ∃ K : Int32 → Prop, K = (fun v8' => I47 v8' ∧ μ47 v8' < μ47 v8) := ⟨_, rfl⟩
        rw [← hKe47] at h
        have hK47 : ∀ (v8' : Int32) (H : Heap) (locs : List Loc) (ls : Array Slot), K47 v8' → lv_has ls 11 [(0, hp_v B o), (1, .int a1), (3, .int a3), (4, .int a4), (5, .int a5), (6, .int v6), (7, .int v7), (8, .int (v8'))] → hp_S B D s0 Si H locs → W p l e ({ frames := 3, cells := 0, slots := 0, locals := 192 } : Room) s m args below meth c H locs 0 0 (MQ below (hp_Qi B D s0 (fun r S' => S' = Si ∧ Q r)) args s 0 0 (fun q => B < q)) (F0 m 47 ls []) := by
          intro v8' H locs ls hI hl hR
          rw [hKe47] at hI
          exact ih47 v8' H locs ls (Nat.lt_of_lt_of_le hI.2 (Nat.le_of_lt_succ hN)) hI.1 hl hR
        have b207 : ∀ (v8 : Int32) (t0 : Int32) (H : Heap) (locs : List Loc) (ls : Array Slot), wb_X7_actOf_207 o a1 a2 a3 a4 a5 v6 v7 v8 t0 Si K47 Q → lv_has ls 11 [(0, hp_v B o), (1, .int a1), (3, .int a3), (4, .int a4), (5, .int a5), (6, .int v6), (7, .int v7), (8, .int v8)] → hp_S B D s0 Si H locs → W p l e ({ frames := 3, cells := 0, slots := 0, locals := 192 } : Room) s m args below meth c H locs 0 0 (MQ below (hp_Qi B D s0 (fun r S' => S' = Si ∧ Q r)) args s 0 0 (fun q => B < q)) (F0 m 207 ls [.int t0]) := by
          intro v8 t0 H locs ls h hl hR
          unfold wb_X7_actOf_207 at h
          refine hp_istore E hl 10 (lv' := [(0, hp_v B o), (1, .int a1), (3, .int a3), (4, .int a4), (5, .int a5), (6, .int v6), (7, .int v7), (8, .int v8)]) dX7_actOf_207 (rfl : 207 + 2 = 209) (by decide) rfl (fun ls hl => ?_)
          refine hp_iload E hl 0 rfl dX7_actOf_209 (rfl : 209 + 2 = 211) ?_
          refine hp_if_eq E dX7_actOf_211 (rfl : 211 + 3 = 214) (tgt := 238) (by decide) (fun hb => ?_) (fun hb => ?_)
          · have h := h.1 hb
            refine hp_iinc E hl (v8 + (-1 : Int32)) 8 (lv' := [(10, .int t0), (0, hp_v B o), (1, .int a1), (3, .int a3), (4, .int a4), (5, .int a5), (6, .int v6), (7, .int v7)]) dX7_actOf_238 (rfl : 238 + 3 = 241) rfl (by first | rfl | (congr 1)) (by decide) rfl (fun ls hl => ?_)
            refine hp_goto E (tgt := 47) dX7_actOf_241 (by decide) ?_
            exact hK47 _ _ _ _ h (lv_sub hl [2, 3, 4, 5, 6, 7, 8, 0] rfl) hR
          · have h := h.2 hb
            refine hp_iload_n E hl 1 rfl 2 rfl dX7_actOf_214 (rfl : 214 + 1 = 215) ?_
            refine hp_if_ne E dX7_actOf_215 (rfl : 215 + 3 = 218) (tgt := 230) (by decide) (fun hb => ?_) (fun hb => ?_)
            · have h := h.1 hb
              refine hp_iconst E (1 : Int32) (by decide) dX7_actOf_218 (rfl : 218 + 1 = 219) ?_
              refine hp_aload_n E hl 0 rfl 1 rfl dX7_actOf_219 (rfl : 219 + 1 = 220) ?_
              refine hp_getR E hR in_X7 hc0 rfl 30 (Nat.le_of_ble_eq_true rfl) rfl q1291 (fun _ h => h) dX7_actOf_220 (rfl : 220 + 3 = 223) ?_
              refine hp_iload E hl 8 rfl dX7_actOf_223 (rfl : 223 + 2 = 225) ?_
              obtain ⟨hc20701, h⟩ := h
              obtain ⟨hi20702, h⟩ := h
              refine hp_iald E hR hc20701 hi20702 dX7_actOf_225 (rfl : 225 + 1 = 226) ?_
              refine hp_isub E dX7_actOf_226 (rfl : 226 + 1 = 227) ?_
              refine hp_goto E (tgt := 237) dX7_actOf_227 (by decide) ?_
              exact b237 _ _ _ _ h (lv_sub hl [] rfl) hR
            · have h := h.2 hb
              refine hp_aload_n E hl 0 rfl 1 rfl dX7_actOf_230 (rfl : 230 + 1 = 231) ?_
              refine hp_getR E hR in_X7 hc0 rfl 31 (Nat.le_of_ble_eq_true rfl) rfl q1292 (fun _ h => h) dX7_actOf_231 (rfl : 231 + 3 = 234) ?_
              refine hp_iload E hl 8 rfl dX7_actOf_234 (rfl : 234 + 2 = 236) ?_
              obtain ⟨hc20703, h⟩ := h
              obtain ⟨hi20704, h⟩ := h
              refine hp_iald E hR hc20703 hi20704 dX7_actOf_236 (rfl : 236 + 1 = 237) ?_
              exact b237 _ _ _ _ h (lv_sub hl [] rfl) hR
        have b206 : ∀ (v8 : Int32) (H : Heap) (locs : List Loc) (ls : Array Slot), wb_X7_actOf_206 o a1 a2 a3 a4 a5 v6 v7 v8 Si K47 Q → lv_has ls 11 [(0, hp_v B o), (1, .int a1), (3, .int a3), (4, .int a4), (5, .int a5), (6, .int v6), (7, .int v7), (8, .int v8)] → hp_S B D s0 Si H locs → W p l e ({ frames := 3, cells := 0, slots := 0, locals := 192 } : Room) s m args below meth c H locs 0 0 (MQ below (hp_Qi B D s0 (fun r S' => S' = Si ∧ Q r)) args s 0 0 (fun q => B < q)) (F0 m 206 ls []) := by
          intro v8 H locs ls h hl hR
          unfold wb_X7_actOf_206 at h
          refine hp_iconst E (0 : Int32) (by decide) dX7_actOf_206 (rfl : 206 + 1 = 207) ?_
          exact b207 _ _ _ _ _ h hl hR
        have b202 : ∀ (v8 : Int32) (H : Heap) (locs : List Loc) (ls : Array Slot), wb_X7_actOf_202 o a1 a2 a3 a4 a5 v6 v7 v8 Si K47 Q → lv_has ls 11 [(0, hp_v B o), (1, .int a1), (3, .int a3), (4, .int a4), (5, .int a5), (6, .int v6), (7, .int v7), (8, .int v8)] → hp_S B D s0 Si H locs → W p l e ({ frames := 3, cells := 0, slots := 0, locals := 192 } : Room) s m args below meth c H locs 0 0 (MQ below (hp_Qi B D s0 (fun r S' => S' = Si ∧ Q r)) args s 0 0 (fun q => B < q)) (F0 m 202 ls []) := by
          intro v8 H locs ls h hl hR
          unfold wb_X7_actOf_202 at h
          refine hp_iconst E (1 : Int32) (by decide) dX7_actOf_202 (rfl : 202 + 1 = 203) ?_
          refine hp_goto E (tgt := 207) dX7_actOf_203 (by decide) ?_
          exact b207 _ _ _ _ _ h hl hR
        have b199 : ∀ (v8 : Int32) (t0 : Int32) (t1 : Int32) (H : Heap) (locs : List Loc) (ls : Array Slot), wb_X7_actOf_199 o a1 a2 a3 a4 a5 v6 v7 v8 t0 t1 Si K47 Q → lv_has ls 11 [(0, hp_v B o), (1, .int a1), (3, .int a3), (4, .int a4), (5, .int a5), (6, .int v6), (7, .int v7), (8, .int v8)] → hp_S B D s0 Si H locs → W p l e ({ frames := 3, cells := 0, slots := 0, locals := 192 } : Room) s m args below meth c H locs 0 0 (MQ below (hp_Qi B D s0 (fun r S' => S' = Si ∧ Q r)) args s 0 0 (fun q => B < q)) (F0 m 199 ls [.int t1, .int t0]) := by
          intro v8 t0 t1 H locs ls h hl hR
          unfold wb_X7_actOf_199 at h
          refine hp_icmp_ne E dX7_actOf_199 (rfl : 199 + 3 = 202) (tgt := 206) (by decide) (fun hb => ?_) (fun hb => ?_)
          · have h := h.1 hb
            exact b202 _ _ _ _ h hl hR
          · have h := h.2 hb
            exact b206 _ _ _ _ h hl hR
        have b189 : ∀ (v8 : Int32) (t0 : Int32) (H : Heap) (locs : List Loc) (ls : Array Slot), wb_X7_actOf_189 o a1 a2 a3 a4 a5 v6 v7 v8 t0 Si K47 Q → lv_has ls 11 [(0, hp_v B o), (1, .int a1), (3, .int a3), (4, .int a4), (5, .int a5), (6, .int v6), (7, .int v7), (8, .int v8)] → hp_S B D s0 Si H locs → W p l e ({ frames := 3, cells := 0, slots := 0, locals := 192 } : Room) s m args below meth c H locs 0 0 (MQ below (hp_Qi B D s0 (fun r S' => S' = Si ∧ Q r)) args s 0 0 (fun q => B < q)) (F0 m 189 ls [.int t0]) := by
          intro v8 t0 H locs ls h hl hR
          unfold wb_X7_actOf_189 at h
          refine hp_iload_n E hl 3 rfl 2 rfl dX7_actOf_189 (rfl : 189 + 1 = 190) ?_
          refine hp_iconst E (-1 : Int32) (by decide) dX7_actOf_190 (rfl : 190 + 1 = 191) ?_
          refine hp_icmp_eq E dX7_actOf_191 (rfl : 191 + 3 = 194) (tgt := 198) (by decide) (fun hb => ?_) (fun hb => ?_)
          · have h := h.1 hb
            refine hp_iconst E (0 : Int32) (by decide) dX7_actOf_198 (rfl : 198 + 1 = 199) ?_
            exact b199 _ _ _ _ _ _ h hl hR
          · have h := h.2 hb
            refine hp_iconst E (1 : Int32) (by decide) dX7_actOf_194 (rfl : 194 + 1 = 195) ?_
            refine hp_goto E (tgt := 199) dX7_actOf_195 (by decide) ?_
            exact b199 _ _ _ _ _ _ h hl hR
        have b91 : ∀ (v8 : Int32) (t0 : Int32) (H : Heap) (locs : List Loc) (ls : Array Slot), wb_X7_actOf_91 o a1 a2 a3 a4 a5 v6 v7 v8 t0 Si K47 Q → lv_has ls 11 [(0, hp_v B o), (1, .int a1), (3, .int a3), (4, .int a4), (5, .int a5), (6, .int v6), (7, .int v7), (8, .int v8)] → hp_S B D s0 Si H locs → W p l e ({ frames := 3, cells := 0, slots := 0, locals := 192 } : Room) s m args below meth c H locs 0 0 (MQ below (hp_Qi B D s0 (fun r S' => S' = Si ∧ Q r)) args s 0 0 (fun q => B < q)) (F0 m 91 ls [.int t0]) := by
          intro v8 t0 H locs ls h hl hR
          unfold wb_X7_actOf_91 at h
          refine hp_istore E hl 9 (lv' := [(0, hp_v B o), (1, .int a1), (3, .int a3), (4, .int a4), (5, .int a5), (6, .int v6), (7, .int v7), (8, .int v8)]) dX7_actOf_91 (rfl : 91 + 2 = 93) (by decide) rfl (fun ls hl => ?_)
          refine hp_iload E hl 0 rfl dX7_actOf_93 (rfl : 93 + 2 = 95) ?_
          refine hp_if_eq E dX7_actOf_95 (rfl : 95 + 3 = 98) (tgt := 206) (by decide) (fun hb => ?_) (fun hb => ?_)
          · have h := h.1 hb
            exact b206 _ _ _ _ h (lv_sub hl [1, 2, 3, 4, 5, 6, 7, 8] rfl) hR
          · have h := h.2 hb
            refine hp_iload E hl 7 rfl dX7_actOf_98 (rfl : 98 + 2 = 100) ?_
            refine hp_aload_n E hl 0 rfl 1 rfl dX7_actOf_100 (rfl : 100 + 1 = 101) ?_
            refine hp_getR E hR in_X7 hc0 rfl 32 (Nat.le_of_ble_eq_true rfl) rfl q1293 (fun _ h => h) dX7_actOf_101 (rfl : 101 + 3 = 104) ?_
            refine hp_iload E hl 8 rfl dX7_actOf_104 (rfl : 104 + 2 = 106) ?_
            obtain ⟨hc9101, h⟩ := h
            obtain ⟨hi9102, h⟩ := h
            refine hp_iald E hR hc9101 hi9102 dX7_actOf_106 (rfl : 106 + 1 = 107) ?_
            refine hp_aload_n E hl 0 rfl 1 rfl dX7_actOf_107 (rfl : 107 + 1 = 108) ?_
            refine hp_getR E hR in_X7 hc0 rfl 33 (Nat.le_of_ble_eq_true rfl) rfl q1294 (fun _ h => h) dX7_actOf_108 (rfl : 108 + 3 = 111) ?_
            refine hp_iload E hl 8 rfl dX7_actOf_111 (rfl : 111 + 2 = 113) ?_
            obtain ⟨hc9103, h⟩ := h
            obtain ⟨hi9104, h⟩ := h
            refine hp_iald E hR hc9103 hi9104 dX7_actOf_113 (rfl : 113 + 1 = 114) ?_
            refine hp_fi (hp_rS E hR hl (m_X7_isIn G _ _ _ _ _ h) q1504 q1505 q82 q1506 nf_X7_isIn ⟨Nat.le_of_ble_eq_true rfl, Nat.le_of_ble_eq_true rfl⟩ (rest := []) rfl (Nat.le_of_ble_eq_true rfl) dX7_actOf_114 ⟨Nat.le_of_ble_eq_true rfl, Nat.le_of_ble_eq_true rfl⟩) hR (rfl : 114 + 3 = 117) (fun z9105 Sx H locs hq hR => ?_)
            obtain ⟨hSx, h⟩ := hq
            rw [hSx] at hR
            refine hp_if_eq E dX7_actOf_117 (rfl : 117 + 3 = 120) (tgt := 206) (by decide) (fun hb => ?_) (fun hb => ?_)
            · have h := h.1 hb
              exact b206 _ _ _ _ h (lv_sub hl [1, 2, 3, 4, 5, 6, 7, 8] rfl) hR
            · have h := h.2 hb
              refine hp_aload_n E hl 0 rfl 1 rfl dX7_actOf_120 (rfl : 120 + 1 = 121) ?_
              refine hp_getR E hR in_X7 hc0 rfl 34 (Nat.le_of_ble_eq_true rfl) rfl q1295 (fun _ h => h) dX7_actOf_121 (rfl : 121 + 3 = 124) ?_
              refine hp_iload E hl 8 rfl dX7_actOf_124 (rfl : 124 + 2 = 126) ?_
              obtain ⟨hc9106, h⟩ := h
              obtain ⟨hi9107, h⟩ := h
              refine hp_iald E hR hc9106 hi9107 dX7_actOf_126 (rfl : 126 + 1 = 127) ?_
              refine hp_aload_n E hl 0 rfl 1 rfl dX7_actOf_127 (rfl : 127 + 1 = 128) ?_
              refine hp_getR E hR in_X7 hc0 rfl 6 (Nat.le_of_ble_eq_true rfl) rfl q1267 (fun _ h => h) dX7_actOf_128 (rfl : 128 + 3 = 131) ?_
              refine hp_iload E hl 6 rfl dX7_actOf_131 (rfl : 131 + 2 = 133) ?_
              obtain ⟨hc9108, h⟩ := h
              obtain ⟨hi9109, h⟩ := h
              refine hp_iald E hR hc9108 hi9109 dX7_actOf_133 (rfl : 133 + 1 = 134) ?_
              refine hp_ishr E dX7_actOf_134 (rfl : 134 + 1 = 135) ?_
              refine hp_iconst E (1 : Int32) (by decide) dX7_actOf_135 (rfl : 135 + 1 = 136) ?_
              refine hp_iand E dX7_actOf_136 (rfl : 136 + 1 = 137) ?_
              refine hp_iconst E (1 : Int32) (by decide) dX7_actOf_137 (rfl : 137 + 1 = 138) ?_
              refine hp_icmp_ne E dX7_actOf_138 (rfl : 138 + 3 = 141) (tgt := 206) (by decide) (fun hb => ?_) (fun hb => ?_)
              · have h := h.1 hb
                refine hp_iload E hl 4 rfl dX7_actOf_141 (rfl : 141 + 2 = 143) ?_
                refine hp_aload_n E hl 0 rfl 1 rfl dX7_actOf_143 (rfl : 143 + 1 = 144) ?_
                refine hp_getR E hR in_X7 hc0 rfl 35 (Nat.le_of_ble_eq_true rfl) rfl q1296 (fun _ h => h) dX7_actOf_144 (rfl : 144 + 3 = 147) ?_
                refine hp_iload E hl 8 rfl dX7_actOf_147 (rfl : 147 + 2 = 149) ?_
                obtain ⟨hc9110, h⟩ := h
                obtain ⟨hi9111, h⟩ := h
                refine hp_iald E hR hc9110 hi9111 dX7_actOf_149 (rfl : 149 + 1 = 150) ?_
                refine hp_aload_n E hl 0 rfl 1 rfl dX7_actOf_150 (rfl : 150 + 1 = 151) ?_
                refine hp_getR E hR in_X7 hc0 rfl 36 (Nat.le_of_ble_eq_true rfl) rfl q1297 (fun _ h => h) dX7_actOf_151 (rfl : 151 + 3 = 154) ?_
                refine hp_iload E hl 8 rfl dX7_actOf_154 (rfl : 154 + 2 = 156) ?_
                obtain ⟨hc9112, h⟩ := h
                obtain ⟨hi9113, h⟩ := h
                refine hp_iald E hR hc9112 hi9113 dX7_actOf_156 (rfl : 156 + 1 = 157) ?_
                refine hp_fi (hp_rS E hR hl (m_X7_isIn G _ _ _ _ _ h) q1504 q1505 q82 q1506 nf_X7_isIn ⟨Nat.le_of_ble_eq_true rfl, Nat.le_of_ble_eq_true rfl⟩ (rest := []) rfl (Nat.le_of_ble_eq_true rfl) dX7_actOf_157 ⟨Nat.le_of_ble_eq_true rfl, Nat.le_of_ble_eq_true rfl⟩) hR (rfl : 157 + 3 = 160) (fun z9114 Sx H locs hq hR => ?_)
                obtain ⟨hSx, h⟩ := hq
                rw [hSx] at hR
                refine hp_if_eq E dX7_actOf_160 (rfl : 160 + 3 = 163) (tgt := 206) (by decide) (fun hb => ?_) (fun hb => ?_)
                · have h := h.1 hb
                  exact b206 _ _ _ _ h (lv_sub hl [1, 2, 3, 4, 5, 6, 7, 8] rfl) hR
                · have h := h.2 hb
                  refine hp_aload_n E hl 0 rfl 1 rfl dX7_actOf_163 (rfl : 163 + 1 = 164) ?_
                  refine hp_getR E hR in_X7 hc0 rfl 37 (Nat.le_of_ble_eq_true rfl) rfl q1298 (fun _ h => h) dX7_actOf_164 (rfl : 164 + 3 = 167) ?_
                  refine hp_iload E hl 8 rfl dX7_actOf_167 (rfl : 167 + 2 = 169) ?_
                  obtain ⟨hc9115, h⟩ := h
                  obtain ⟨hi9116, h⟩ := h
                  refine hp_iald E hR hc9115 hi9116 dX7_actOf_169 (rfl : 169 + 1 = 170) ?_
                  refine hp_if_eq E dX7_actOf_170 (rfl : 170 + 3 = 173) (tgt := 202) (by decide) (fun hb => ?_) (fun hb => ?_)
                  · have h := h.1 hb
                    exact b202 _ _ _ _ h (lv_sub hl [1, 2, 3, 4, 5, 6, 7, 8] rfl) hR
                  · have h := h.2 hb
                    refine hp_aload_n E hl 0 rfl 1 rfl dX7_actOf_173 (rfl : 173 + 1 = 174) ?_
                    refine hp_getR E hR in_X7 hc0 rfl 37 (Nat.le_of_ble_eq_true rfl) rfl q1298 (fun _ h => h) dX7_actOf_174 (rfl : 174 + 3 = 177) ?_
                    refine hp_iload E hl 8 rfl dX7_actOf_177 (rfl : 177 + 2 = 179) ?_
                    obtain ⟨hi9117, h⟩ := h
                    refine hp_iald E hR hc9115 hi9117 dX7_actOf_179 (rfl : 179 + 1 = 180) ?_
                    refine hp_iconst E (1 : Int32) (by decide) dX7_actOf_180 (rfl : 180 + 1 = 181) ?_
                    refine hp_icmp_ne E dX7_actOf_181 (rfl : 181 + 3 = 184) (tgt := 188) (by decide) (fun hb => ?_) (fun hb => ?_)
                    · have h := h.1 hb
                      refine hp_iconst E (1 : Int32) (by decide) dX7_actOf_184 (rfl : 184 + 1 = 185) ?_
                      refine hp_goto E (tgt := 189) dX7_actOf_185 (by decide) ?_
                      exact b189 _ _ _ _ _ h (lv_sub hl [1, 2, 3, 4, 5, 6, 7, 8] rfl) hR
                    · have h := h.2 hb
                      refine hp_iconst E (0 : Int32) (by decide) dX7_actOf_188 (rfl : 188 + 1 = 189) ?_
                      exact b189 _ _ _ _ _ h (lv_sub hl [1, 2, 3, 4, 5, 6, 7, 8] rfl) hR
              · have h := h.2 hb
                exact b206 _ _ _ _ h (lv_sub hl [1, 2, 3, 4, 5, 6, 7, 8] rfl) hR
        unfold wb_X7_actOf_47 at h
        refine hp_iload E hl 7 rfl dX7_actOf_47 (rfl : 47 + 2 = 49) ?_
        refine hp_if_lt E dX7_actOf_49 (rfl : 49 + 3 = 52) (tgt := 244) (by decide) (fun hb => ?_) (fun hb => ?_)
        · have h := h.1 hb
          refine hp_iload E hl 4 rfl dX7_actOf_244 (rfl : 244 + 2 = 246) ?_
          exact hp_iret E hR ⟨rfl, h⟩ (Nat.le_of_ble_eq_true rfl) (Nat.le_of_ble_eq_true rfl) dX7_actOf_246
        · have h := h.2 hb
          refine hp_iload_n E hl 1 rfl 1 rfl dX7_actOf_52 (rfl : 52 + 1 = 53) ?_
          refine hp_if_ne E dX7_actOf_53 (rfl : 53 + 3 = 56) (tgt := 75) (by decide) (fun hb => ?_) (fun hb => ?_)
          · have h := h.1 hb
            refine hp_aload_n E hl 0 rfl 0 rfl dX7_actOf_56 (rfl : 56 + 1 = 57) ?_
            refine hp_getR E hR in_X7 hc0 rfl 30 (Nat.le_of_ble_eq_true rfl) rfl q1291 (fun _ h => h) dX7_actOf_57 (rfl : 57 + 3 = 60) ?_
            refine hp_iload E hl 7 rfl dX7_actOf_60 (rfl : 60 + 2 = 62) ?_
            obtain ⟨hc4701, h⟩ := h
            obtain ⟨hi4702, h⟩ := h
            refine hp_iald E hR hc4701 hi4702 dX7_actOf_62 (rfl : 62 + 1 = 63) ?_
            refine hp_iconst E (1 : Int32) (by decide) dX7_actOf_63 (rfl : 63 + 1 = 64) ?_
            refine hp_icmp_gt E dX7_actOf_64 (rfl : 64 + 3 = 67) (tgt := 71) (by decide) (fun hb => ?_) (fun hb => ?_)
            · have h := h.1 hb
              refine hp_iconst E (1 : Int32) (by decide) dX7_actOf_67 (rfl : 67 + 1 = 68) ?_
              refine hp_goto E (tgt := 91) dX7_actOf_68 (by decide) ?_
              exact b91 _ _ _ _ _ h hl hR
            · have h := h.2 hb
              refine hp_iconst E (0 : Int32) (by decide) dX7_actOf_71 (rfl : 71 + 1 = 72) ?_
              refine hp_goto E (tgt := 91) dX7_actOf_72 (by decide) ?_
              exact b91 _ _ _ _ _ h hl hR
          · have h := h.2 hb
            refine hp_aload_n E hl 0 rfl 0 rfl dX7_actOf_75 (rfl : 75 + 1 = 76) ?_
            refine hp_getR E hR in_X7 hc0 rfl 30 (Nat.le_of_ble_eq_true rfl) rfl q1291 (fun _ h => h) dX7_actOf_76 (rfl : 76 + 3 = 79) ?_
            refine hp_iload E hl 7 rfl dX7_actOf_79 (rfl : 79 + 2 = 81) ?_
            obtain ⟨hc4703, h⟩ := h
            obtain ⟨hi4704, h⟩ := h
            refine hp_iald E hR hc4703 hi4704 dX7_actOf_81 (rfl : 81 + 1 = 82) ?_
            refine hp_iload_n E hl 1 rfl 1 rfl dX7_actOf_82 (rfl : 82 + 1 = 83) ?_
            refine hp_icmp_ne E dX7_actOf_83 (rfl : 83 + 3 = 86) (tgt := 90) (by decide) (fun hb => ?_) (fun hb => ?_)
            · have h := h.1 hb
              refine hp_iconst E (1 : Int32) (by decide) dX7_actOf_86 (rfl : 86 + 1 = 87) ?_
              refine hp_goto E (tgt := 91) dX7_actOf_87 (by decide) ?_
              exact b91 _ _ _ _ _ h hl hR
            · have h := h.2 hb
              refine hp_iconst E (0 : Int32) (by decide) dX7_actOf_90 (rfl : 90 + 1 = 91) ?_
              exact b91 _ _ _ _ _ h hl hR
    exact key47 (μ47 v8 + 1) v8 H locs ls (Nat.lt_succ_self _) hI hl hR
  have b27 : ∀ (t0 : Int32) (H : Heap) (locs : List Loc) (ls : Array Slot), wb_X7_actOf_27 o a1 a2 a3 a4 a5 t0 Si Q → lv_has ls 11 [(0, hp_v B o), (1, .int a1), (3, .int a3), (4, .int a4), (5, .int a5)] → hp_S B D s0 Si H locs → W p l e ({ frames := 3, cells := 0, slots := 0, locals := 192 } : Room) s m args below meth c H locs 0 0 (MQ below (hp_Qi B D s0 (fun r S' => S' = Si ∧ Q r)) args s 0 0 (fun q => B < q)) (F0 m 27 ls [.int t0]) := by
    intro t0 H locs ls h hl hR
    unfold wb_X7_actOf_27 at h
    refine hp_istore E hl 6 (lv' := [(0, hp_v B o), (1, .int a1), (3, .int a3), (4, .int a4), (5, .int a5)]) dX7_actOf_27 (rfl : 27 + 2 = 29) (by decide) rfl (fun ls hl => ?_)
    refine hp_aload_n E hl 0 rfl 1 rfl dX7_actOf_29 (rfl : 29 + 1 = 30) ?_
    refine hp_iload E hl 0 rfl dX7_actOf_30 (rfl : 30 + 2 = 32) ?_
    refine hp_iload E hl 4 rfl dX7_actOf_32 (rfl : 32 + 2 = 34) ?_
    refine hp_fi (hp_rV E hR hl (m_X7_ageIn G _ _ _ _ _ hc0 h) hc0 (ci := 6) rfl rfl q1527 q1529 qs47 q82 q1530 nf_X7_ageIn ⟨Nat.le_of_ble_eq_true rfl, Nat.le_of_ble_eq_true rfl⟩ (rest := []) rfl (Nat.le_of_ble_eq_true rfl) dX7_actOf_34 ⟨Nat.le_of_ble_eq_true rfl, Nat.le_of_ble_eq_true rfl⟩) hR (rfl : 34 + 3 = 37) (fun z2701 Sx H locs hq hR => ?_)
    obtain ⟨hSx, h⟩ := hq
    rw [hSx] at hR
    refine hp_istore E hl 7 (lv' := [(6, .int t0), (0, hp_v B o), (1, .int a1), (3, .int a3), (4, .int a4), (5, .int a5)]) dX7_actOf_37 (rfl : 37 + 2 = 39) (by decide) rfl (fun ls hl => ?_)
    refine hp_aload_n E hl 0 rfl 2 rfl dX7_actOf_39 (rfl : 39 + 1 = 40) ?_
    refine hp_getI E hR in_X7 hc0 rfl 38 (Nat.le_of_ble_eq_true rfl) rfl q1299 (fun _ h => h) dX7_actOf_40 (rfl : 40 + 3 = 43) ?_
    refine hp_iconst E (1 : Int32) (by decide) dX7_actOf_43 (rfl : 43 + 1 = 44) ?_
    refine hp_isub E dX7_actOf_44 (rfl : 44 + 1 = 45) ?_
    refine hp_istore E hl 8 (lv' := [(7, .int z2701), (6, .int t0), (0, hp_v B o), (1, .int a1), (3, .int a3), (4, .int a4), (5, .int a5)]) dX7_actOf_45 (rfl : 45 + 2 = 47) (by decide) rfl (fun ls hl => ?_)
    exact b47 _ _ _ _ _ _ h (lv_sub hl [3, 4, 5, 6, 7, 2, 1, 0] rfl) hR
  have b22 : ∀ (H : Heap) (locs : List Loc) (ls : Array Slot), wb_X7_actOf_22 o a1 a2 a3 a4 a5 Si Q → lv_has ls 11 [(0, hp_v B o), (1, .int a1), (2, .int a2), (3, .int a3), (4, .int a4), (5, .int a5)] → hp_S B D s0 Si H locs → W p l e ({ frames := 3, cells := 0, slots := 0, locals := 192 } : Room) s m args below meth c H locs 0 0 (MQ below (hp_Qi B D s0 (fun r S' => S' = Si ∧ Q r)) args s 0 0 (fun q => B < q)) (F0 m 22 ls []) := by
    intro  H locs ls h hl hR
    unfold wb_X7_actOf_22 at h
    refine hp_iload_n E hl 2 rfl 2 rfl dX7_actOf_22 (rfl : 22 + 1 = 23) ?_
    refine hp_goto E (tgt := 27) dX7_actOf_23 (by decide) ?_
    exact b27 _ _ _ _ h (lv_sub hl [0, 1, 3, 4, 5] rfl) hR
  unfold wp_X7_actOf at h
  refine hp_iload_n E hl 3 rfl 3 rfl dX7_actOf_0 (rfl : 0 + 1 = 1) ?_
  refine hp_iconst E (-1 : Int32) (by decide) dX7_actOf_1 (rfl : 1 + 1 = 2) ?_
  refine hp_icmp_eq E dX7_actOf_2 (rfl : 2 + 3 = 5) (tgt := 22) (by decide) (fun hb => ?_) (fun hb => ?_)
  · have h := h.1 hb
    exact b22 _ _ _ h hl hR
  · have h := h.2 hb
    refine hp_aload_n E hl 0 rfl 0 rfl dX7_actOf_5 (rfl : 5 + 1 = 6) ?_
    refine hp_iload_n E hl 2 rfl 2 rfl dX7_actOf_6 (rfl : 6 + 1 = 7) ?_
    refine hp_iload E hl 4 rfl dX7_actOf_7 (rfl : 7 + 2 = 9) ?_
    refine hp_fi (hp_rV E hR hl (m_X7_ageIn G _ _ _ _ _ hc0 h) hc0 (ci := 6) rfl rfl q1527 q1529 qs47 q82 q1530 nf_X7_ageIn ⟨Nat.le_of_ble_eq_true rfl, Nat.le_of_ble_eq_true rfl⟩ (rest := []) rfl (Nat.le_of_ble_eq_true rfl) dX7_actOf_9 ⟨Nat.le_of_ble_eq_true rfl, Nat.le_of_ble_eq_true rfl⟩) hR (rfl : 9 + 3 = 12) (fun z1 Sx H locs hq hR => ?_)
    obtain ⟨hSx, h⟩ := hq
    rw [hSx] at hR
    refine hp_aload_n E hl 0 rfl 0 rfl dX7_actOf_12 (rfl : 12 + 1 = 13) ?_
    refine hp_iload_n E hl 3 rfl 3 rfl dX7_actOf_13 (rfl : 13 + 1 = 14) ?_
    refine hp_iload E hl 4 rfl dX7_actOf_14 (rfl : 14 + 2 = 16) ?_
    refine hp_fi (hp_rV E hR hl (m_X7_ageIn G _ _ _ _ _ hc0 h) hc0 (ci := 6) rfl rfl q1527 q1529 qs47 q82 q1530 nf_X7_ageIn ⟨Nat.le_of_ble_eq_true rfl, Nat.le_of_ble_eq_true rfl⟩ (rest := [.int z1]) rfl (Nat.le_of_ble_eq_true rfl) dX7_actOf_16 ⟨Nat.le_of_ble_eq_true rfl, Nat.le_of_ble_eq_true rfl⟩) hR (rfl : 16 + 3 = 19) (fun z2 Sx H locs hq hR => ?_)
    obtain ⟨hSx, h⟩ := hq
    rw [hSx] at hR
    refine hp_icmp_gt E dX7_actOf_19 (rfl : 19 + 3 = 22) (tgt := 26) (by decide) (fun hb => ?_) (fun hb => ?_)
    · have h := h.1 hb
      exact b22 _ _ _ h hl hR
    · have h := h.2 hb
      refine hp_iload_n E hl 3 rfl 3 rfl dX7_actOf_26 (rfl : 26 + 1 = 27) ?_
      exact b27 _ _ _ _ h (lv_sub hl [0, 1, 3, 4, 5] rfl) hR
def wb_X7_mayBe_21 (o : Nat) (a1 : Int32) (a2 : Int32) (t0 : Int32) (S : hp_St) (Q : Int32 → Prop) : Prop := (t0 = 0 ∨ t0 = 1) ∧ Q t0
def wp_X7_mayBe (o : Nat) (a1 : Int32) (a2 : Int32) (S : hp_St) (Q : Int32 → Prop) : Prop := wp_X7_actOf o (0 : Int32) a1 a2 (st_I S o 3) (1 : Int32) S (fun z1 => (((z1 = (1 : Int32)) → wb_X7_mayBe_21 o a1 a2 (1 : Int32) S Q) ∧ ((¬ (z1 = (1 : Int32))) → wb_X7_mayBe_21 o a1 a2 (0 : Int32) S Q)))
theorem nf_X7_mayBe : hp_nf yX7_mayBe 2 = true := by decide +kernel
set_option maxHeartbeats 4000000 in
theorem m_X7_mayBe {l : Launch} {B : Nat} {D : va_G} {s0 : State} {b0 : Nat} (G : hp_G l B D s0 b0) (o : Nat) (a1 : Int32) (a2 : Int32) (Si : hp_St) (Q : Int32 → Prop) (hc0 : st_C Si o = 7) (h : wp_X7_mayBe o a1 a2 Si Q) : hp_M l B D s0 yX7_mayBe cX7_mayBe 3 (some .boolean) 4 256 0 0 [hp_v B o, .int a1, .int a2] Si (hp_Qi B D s0 (fun r S' => S' = Si ∧ Q r)) := by
  refine hp_start G (by decide +kernel) rfl rfl (lv := [(0, hp_v B o), (1, .int a1), (2, .int a2)]) (by simp [lg_sl, hp_vc, hp_ci, hp_cj]) (by simp [lv_args, hp_vc, hp_ci, hp_cj]) ?_
  intro p e s m args below meth c E ls hl hR
  generalize hH : s.heap = H at hR ⊢
  generalize hLo : ([] : List Loc) = locs at hR ⊢
  have b21 : ∀ (t0 : Int32) (H : Heap) (locs : List Loc) (ls : Array Slot), wb_X7_mayBe_21 o a1 a2 t0 Si Q → lv_has ls 3 [] → hp_S B D s0 Si H locs → W p l e ({ frames := 4, cells := 0, slots := 0, locals := 256 } : Room) s m args below meth c H locs 0 0 (MQ below (hp_Qi B D s0 (fun r S' => S' = Si ∧ Q r)) args s 0 0 (fun q => B < q)) (F0 m 21 ls [.int t0]) := by
    intro t0 H locs ls h hl hR
    unfold wb_X7_mayBe_21 at h
    obtain ⟨hz2101, h⟩ := h
    exact hp_zret E hR hz2101 ⟨rfl, h⟩ (Nat.le_of_ble_eq_true rfl) (Nat.le_of_ble_eq_true rfl) dX7_mayBe_21
  unfold wp_X7_mayBe at h
  refine hp_aload_n E hl 0 rfl 0 rfl dX7_mayBe_0 (rfl : 0 + 1 = 1) ?_
  refine hp_iconst E (0 : Int32) (by decide) dX7_mayBe_1 (rfl : 1 + 1 = 2) ?_
  refine hp_iload_n E hl 1 rfl 1 rfl dX7_mayBe_2 (rfl : 2 + 1 = 3) ?_
  refine hp_iload_n E hl 2 rfl 2 rfl dX7_mayBe_3 (rfl : 3 + 1 = 4) ?_
  refine hp_aload_n E hl 0 rfl 0 rfl dX7_mayBe_4 (rfl : 4 + 1 = 5) ?_
  refine hp_getI E hR in_X7 hc0 rfl 3 (Nat.le_of_ble_eq_true rfl) rfl q1264 (fun _ h => h) dX7_mayBe_5 (rfl : 5 + 3 = 8) ?_
  refine hp_iconst E (1 : Int32) (by decide) dX7_mayBe_8 (rfl : 8 + 1 = 9) ?_
  refine hp_fi (hp_rV E hR hl (m_X7_actOf G _ _ _ _ _ _ _ _ hc0 h) hc0 (ci := 6) rfl rfl q1523 q1525 qs46 q82 q1526 nf_X7_actOf ⟨Nat.le_of_ble_eq_true rfl, Nat.le_of_ble_eq_true rfl⟩ (rest := []) rfl (Nat.le_of_ble_eq_true rfl) dX7_mayBe_9 ⟨Nat.le_of_ble_eq_true rfl, Nat.le_of_ble_eq_true rfl⟩) hR (rfl : 9 + 3 = 12) (fun z1 Sx H locs hq hR => ?_)
  obtain ⟨hSx, h⟩ := hq
  rw [hSx] at hR
  refine hp_iconst E (1 : Int32) (by decide) dX7_mayBe_12 (rfl : 12 + 1 = 13) ?_
  refine hp_icmp_ne E dX7_mayBe_13 (rfl : 13 + 3 = 16) (tgt := 20) (by decide) (fun hb => ?_) (fun hb => ?_)
  · have h := h.1 hb
    refine hp_iconst E (1 : Int32) (by decide) dX7_mayBe_16 (rfl : 16 + 1 = 17) ?_
    refine hp_goto E (tgt := 21) dX7_mayBe_17 (by decide) ?_
    exact b21 _ _ _ _ h (lv_sub hl [] rfl) hR
  · have h := h.2 hb
    refine hp_iconst E (0 : Int32) (by decide) dX7_mayBe_20 (rfl : 20 + 1 = 21) ?_
    exact b21 _ _ _ _ h (lv_sub hl [] rfl) hR
def wp_X7_priceOf (o : Nat) (a1 : Int32) (a2 : Int32) (S : hp_St) (Q : Int32 → Prop) : Prop := wp_X7_actOf o (2 : Int32) a1 a2 (st_I S o 3) (10 : Int32) S (fun z1 => Q z1)
theorem nf_X7_priceOf : hp_nf yX7_priceOf 2 = true := by decide +kernel
set_option maxHeartbeats 4000000 in
theorem m_X7_priceOf {l : Launch} {B : Nat} {D : va_G} {s0 : State} {b0 : Nat} (G : hp_G l B D s0 b0) (o : Nat) (a1 : Int32) (a2 : Int32) (Si : hp_St) (Q : Int32 → Prop) (hc0 : st_C Si o = 7) (h : wp_X7_priceOf o a1 a2 Si Q) : hp_M l B D s0 yX7_priceOf cX7_priceOf 3 (some .int) 4 256 0 0 [hp_v B o, .int a1, .int a2] Si (hp_Qi B D s0 (fun r S' => S' = Si ∧ Q r)) := by
  refine hp_start G (by decide +kernel) rfl rfl (lv := [(0, hp_v B o), (1, .int a1), (2, .int a2)]) (by simp [lg_sl, hp_vc, hp_ci, hp_cj]) (by simp [lv_args, hp_vc, hp_ci, hp_cj]) ?_
  intro p e s m args below meth c E ls hl hR
  unfold wp_X7_priceOf at h
  refine hp_aload_n E hl 0 rfl 0 rfl dX7_priceOf_0 (rfl : 0 + 1 = 1) ?_
  refine hp_iconst E (2 : Int32) (by decide) dX7_priceOf_1 (rfl : 1 + 1 = 2) ?_
  refine hp_iload_n E hl 1 rfl 1 rfl dX7_priceOf_2 (rfl : 2 + 1 = 3) ?_
  refine hp_iload_n E hl 2 rfl 2 rfl dX7_priceOf_3 (rfl : 3 + 1 = 4) ?_
  refine hp_aload_n E hl 0 rfl 0 rfl dX7_priceOf_4 (rfl : 4 + 1 = 5) ?_
  refine hp_getI E hR in_X7 hc0 rfl 3 (Nat.le_of_ble_eq_true rfl) rfl q1264 (fun _ h => h) dX7_priceOf_5 (rfl : 5 + 3 = 8) ?_
  refine hp_bipush E (10 : Int32) (by decide) dX7_priceOf_8 (rfl : 8 + 2 = 10) ?_
  refine hp_fi (hp_rV E hR hl (m_X7_actOf G _ _ _ _ _ _ _ _ hc0 h) hc0 (ci := 6) rfl rfl q1523 q1525 qs46 q82 q1526 nf_X7_actOf ⟨Nat.le_of_ble_eq_true rfl, Nat.le_of_ble_eq_true rfl⟩ (rest := []) rfl (Nat.le_of_ble_eq_true rfl) dX7_priceOf_10 ⟨Nat.le_of_ble_eq_true rfl, Nat.le_of_ble_eq_true rfl⟩) hR (rfl : 10 + 3 = 13) (fun z1 Sx H locs hq hR => ?_)
  obtain ⟨hSx, h⟩ := hq
  rw [hSx] at hR
  exact hp_iret E hR ⟨rfl, h⟩ (Nat.le_of_ble_eq_true rfl) (Nat.le_of_ble_eq_true rfl) dX7_priceOf_13
def wp_X7_lumpOf (o : Nat) (a1 : Int32) (a2 : Int32) (S : hp_St) (Q : Int32 → Prop) : Prop := wp_X7_actOf o (3 : Int32) a1 a2 (st_I S o 3) (0 : Int32) S (fun z1 => Q z1)
theorem nf_X7_lumpOf : hp_nf yX7_lumpOf 2 = true := by decide +kernel
set_option maxHeartbeats 4000000 in
theorem m_X7_lumpOf {l : Launch} {B : Nat} {D : va_G} {s0 : State} {b0 : Nat} (G : hp_G l B D s0 b0) (o : Nat) (a1 : Int32) (a2 : Int32) (Si : hp_St) (Q : Int32 → Prop) (hc0 : st_C Si o = 7) (h : wp_X7_lumpOf o a1 a2 Si Q) : hp_M l B D s0 yX7_lumpOf cX7_lumpOf 3 (some .int) 4 256 0 0 [hp_v B o, .int a1, .int a2] Si (hp_Qi B D s0 (fun r S' => S' = Si ∧ Q r)) := by
  refine hp_start G (by decide +kernel) rfl rfl (lv := [(0, hp_v B o), (1, .int a1), (2, .int a2)]) (by simp [lg_sl, hp_vc, hp_ci, hp_cj]) (by simp [lv_args, hp_vc, hp_ci, hp_cj]) ?_
  intro p e s m args below meth c E ls hl hR
  unfold wp_X7_lumpOf at h
  refine hp_aload_n E hl 0 rfl 0 rfl dX7_lumpOf_0 (rfl : 0 + 1 = 1) ?_
  refine hp_iconst E (3 : Int32) (by decide) dX7_lumpOf_1 (rfl : 1 + 1 = 2) ?_
  refine hp_iload_n E hl 1 rfl 1 rfl dX7_lumpOf_2 (rfl : 2 + 1 = 3) ?_
  refine hp_iload_n E hl 2 rfl 2 rfl dX7_lumpOf_3 (rfl : 3 + 1 = 4) ?_
  refine hp_aload_n E hl 0 rfl 0 rfl dX7_lumpOf_4 (rfl : 4 + 1 = 5) ?_
  refine hp_getI E hR in_X7 hc0 rfl 3 (Nat.le_of_ble_eq_true rfl) rfl q1264 (fun _ h => h) dX7_lumpOf_5 (rfl : 5 + 3 = 8) ?_
  refine hp_iconst E (0 : Int32) (by decide) dX7_lumpOf_8 (rfl : 8 + 1 = 9) ?_
  refine hp_fi (hp_rV E hR hl (m_X7_actOf G _ _ _ _ _ _ _ _ hc0 h) hc0 (ci := 6) rfl rfl q1523 q1525 qs46 q82 q1526 nf_X7_actOf ⟨Nat.le_of_ble_eq_true rfl, Nat.le_of_ble_eq_true rfl⟩ (rest := []) rfl (Nat.le_of_ble_eq_true rfl) dX7_lumpOf_9 ⟨Nat.le_of_ble_eq_true rfl, Nat.le_of_ble_eq_true rfl⟩) hR (rfl : 9 + 3 = 12) (fun z1 Sx H locs hq hR => ?_)
  obtain ⟨hSx, h⟩ := hq
  rw [hSx] at hR
  exact hp_iret E hR ⟨rfl, h⟩ (Nat.le_of_ble_eq_true rfl) (Nat.le_of_ble_eq_true rfl) dX7_lumpOf_12
def wb_X7_asks_22 (o : Nat) (a1 : Int32) (a2 : Int32) (S : hp_St) (Q : Int32 → hp_St → Prop) : Prop := Q (-1 : Int32) S
def wb_X7_asks_65 (o : Nat) (a1 : Int32) (a2 : Int32) (t0 : Int32) (S : hp_St) (Q : Int32 → hp_St → Prop) : Prop := Q t0 S
def wp_X7_asks (o : Nat) (a1 : Int32) (a2 : Int32) (S : hp_St) (Q : Int32 → hp_St → Prop) : Prop := (∀ S1, S1 = st_pI S o 2 (0 : Int32) → wp_X7_isLife o a1 S1 (fun z4 => (((z4 = 0) → wb_X7_asks_22 o a1 a2 S1 Q) ∧ ((¬ (z4 = 0)) → wp_X7_isIn a2 (0 : Int32) (2 : Int32) S1 (fun z5 => (((z5 = 0) → wb_X7_asks_22 o a1 a2 S1 Q) ∧ ((¬ (z5 = 0)) → (((a2 = 0) → wp_X7_mayBe o a1 (-1 : Int32) S1 (fun z6 => (((z6 = 0) → wb_X7_asks_65 o a1 a2 (0 : Int32) S1 Q) ∧ ((¬ (z6 = 0)) → wb_X7_asks_65 o a1 a2 (1 : Int32) S1 Q)))) ∧ ((¬ (a2 = 0)) → (((a2 = (1 : Int32)) → wp_X7_priceOf o a1 (-1 : Int32) S1 (fun z7 => wb_X7_asks_65 o a1 a2 z7 S1 Q)) ∧ ((¬ (a2 = (1 : Int32))) → wp_X7_lumpOf o a1 (-1 : Int32) S1 (fun z8 => wb_X7_asks_65 o a1 a2 z8 S1 Q))))))))))))
theorem nf_X7_asks : hp_nf yX7_asks 2 = true := by decide +kernel
set_option maxHeartbeats 4000000 in
theorem m_X7_asks {l : Launch} {B : Nat} {D : va_G} {s0 : State} {b0 : Nat} (G : hp_G l B D s0 b0) (o : Nat) (a1 : Int32) (a2 : Int32) (Si : hp_St) (Q : Int32 → hp_St → Prop) (hc0 : st_C Si o = 7) (h : wp_X7_asks o a1 a2 Si Q) : hp_M l B D s0 yX7_asks cX7_asks 3 (some .int) 5 320 0 0 [hp_v B o, .int a1, .int a2] Si (hp_Qi B D s0 (fun r S' => hp_mono Si S' ∧ Q r S')) := by
  refine hp_start G (by decide +kernel) rfl rfl (lv := [(0, hp_v B o), (1, .int a1), (2, .int a2)]) (by simp [lg_sl, hp_vc, hp_ci, hp_cj]) (by simp [lv_args, hp_vc, hp_ci, hp_cj]) ?_
  intro p e s m args below meth c E ls hl hR
  have hm : hp_mono Si Si := hp_mono.rf
  generalize hH : s.heap = H at hR ⊢
  generalize hLo : ([] : List Loc) = locs at hR ⊢
  have b22 : ∀ (S : hp_St) (H : Heap) (locs : List Loc) (ls : Array Slot), wb_X7_asks_22 o a1 a2 S Q → lv_has ls 3 [] → hp_S B D s0 S H locs → hp_mono Si S → W p l e ({ frames := 5, cells := 0, slots := 0, locals := 320 } : Room) s m args below meth c H locs 0 0 (MQ below (hp_Qi B D s0 (fun r S' => hp_mono Si S' ∧ Q r S')) args s 0 0 (fun q => B < q)) (F0 m 22 ls []) := by
    intro S H locs ls h hl hR hm
    unfold wb_X7_asks_22 at h
    refine hp_iconst E (-1 : Int32) (by decide) dX7_asks_22 (rfl : 22 + 1 = 23) ?_
    exact hp_iret E hR ⟨hm, h⟩ (Nat.le_of_ble_eq_true rfl) (Nat.le_of_ble_eq_true rfl) dX7_asks_23
  have b65 : ∀ (t0 : Int32) (S : hp_St) (H : Heap) (locs : List Loc) (ls : Array Slot), wb_X7_asks_65 o a1 a2 t0 S Q → lv_has ls 3 [] → hp_S B D s0 S H locs → hp_mono Si S → W p l e ({ frames := 5, cells := 0, slots := 0, locals := 320 } : Room) s m args below meth c H locs 0 0 (MQ below (hp_Qi B D s0 (fun r S' => hp_mono Si S' ∧ Q r S')) args s 0 0 (fun q => B < q)) (F0 m 65 ls [.int t0]) := by
    intro t0 S H locs ls h hl hR hm
    unfold wb_X7_asks_65 at h
    exact hp_iret E hR ⟨hm, h⟩ (Nat.le_of_ble_eq_true rfl) (Nat.le_of_ble_eq_true rfl) dX7_asks_65
  unfold wp_X7_asks at h
  refine hp_aload_n E hl 0 rfl 0 rfl dX7_asks_0 (rfl : 0 + 1 = 1) ?_
  refine hp_iconst E (0 : Int32) (by decide) dX7_asks_1 (rfl : 1 + 1 = 2) ?_
  refine hx_putI E hR in_X7 tyX7 tyX7_ok nmX7 hc0 rfl 2 (Nat.le_of_ble_eq_true rfl) rfl q1263 (fun _ h => h) (Or.inl rfl) (Or.inl rfl) dX7_asks_2 (rfl : 2 + 3 = 5) (fun S1 H locs e3 hm2 hR => ?_)
  have h := h S1 e3
  have hm := hp_mono.tr hm hm2
  refine hp_aload_n E hl 0 rfl 0 rfl dX7_asks_5 (rfl : 5 + 1 = 6) ?_
  refine hp_iload_n E hl 1 rfl 1 rfl dX7_asks_6 (rfl : 6 + 1 = 7) ?_
  refine hp_fi (hp_rV E hR hl (m_X7_isLife G _ _ _ _ (hp_mono.c hm hc0) h) (hp_mono.c hm hc0) (ci := 6) rfl rfl q1515 q1517 qs44 q82 q1518 nf_X7_isLife ⟨Nat.le_of_ble_eq_true rfl, Nat.le_of_ble_eq_true rfl⟩ (rest := []) rfl (Nat.le_of_ble_eq_true rfl) dX7_asks_7 ⟨Nat.le_of_ble_eq_true rfl, Nat.le_of_ble_eq_true rfl⟩) hR (rfl : 7 + 3 = 10) (fun z4 Sx H locs hq hR => ?_)
  obtain ⟨hSx, h⟩ := hq
  rw [hSx] at hR
  refine hp_if_eq E dX7_asks_10 (rfl : 10 + 3 = 13) (tgt := 22) (by decide) (fun hb => ?_) (fun hb => ?_)
  · have h := h.1 hb
    exact b22 _ _ _ _ h (lv_sub hl [] rfl) hR hm
  · have h := h.2 hb
    refine hp_iload_n E hl 2 rfl 2 rfl dX7_asks_13 (rfl : 13 + 1 = 14) ?_
    refine hp_iconst E (0 : Int32) (by decide) dX7_asks_14 (rfl : 14 + 1 = 15) ?_
    refine hp_iconst E (2 : Int32) (by decide) dX7_asks_15 (rfl : 15 + 1 = 16) ?_
    refine hp_fi (hp_rS E hR hl (m_X7_isIn G _ _ _ _ _ h) q1504 q1505 q82 q1506 nf_X7_isIn ⟨Nat.le_of_ble_eq_true rfl, Nat.le_of_ble_eq_true rfl⟩ (rest := []) rfl (Nat.le_of_ble_eq_true rfl) dX7_asks_16 ⟨Nat.le_of_ble_eq_true rfl, Nat.le_of_ble_eq_true rfl⟩) hR (rfl : 16 + 3 = 19) (fun z5 Sx H locs hq hR => ?_)
    obtain ⟨hSx, h⟩ := hq
    rw [hSx] at hR
    refine hp_if_ne E dX7_asks_19 (rfl : 19 + 3 = 22) (tgt := 24) (by decide) (fun hb => ?_) (fun hb => ?_)
    · have h := h.1 hb
      exact b22 _ _ _ _ h (lv_sub hl [] rfl) hR hm
    · have h := h.2 hb
      refine hp_iload_n E hl 2 rfl 2 rfl dX7_asks_24 (rfl : 24 + 1 = 25) ?_
      refine hp_if_ne E dX7_asks_25 (rfl : 25 + 3 = 28) (tgt := 45) (by decide) (fun hb => ?_) (fun hb => ?_)
      · have h := h.1 hb
        refine hp_aload_n E hl 0 rfl 0 rfl dX7_asks_28 (rfl : 28 + 1 = 29) ?_
        refine hp_iload_n E hl 1 rfl 1 rfl dX7_asks_29 (rfl : 29 + 1 = 30) ?_
        refine hp_iconst E (-1 : Int32) (by decide) dX7_asks_30 (rfl : 30 + 1 = 31) ?_
        refine hp_fi (hp_rV E hR hl (m_X7_mayBe G _ _ _ _ _ (hp_mono.c hm hc0) h) (hp_mono.c hm hc0) (ci := 6) rfl rfl q1519 q1521 qs45 q82 q1522 nf_X7_mayBe ⟨Nat.le_of_ble_eq_true rfl, Nat.le_of_ble_eq_true rfl⟩ (rest := []) rfl (Nat.le_of_ble_eq_true rfl) dX7_asks_31 ⟨Nat.le_of_ble_eq_true rfl, Nat.le_of_ble_eq_true rfl⟩) hR (rfl : 31 + 3 = 34) (fun z6 Sx H locs hq hR => ?_)
        obtain ⟨hSx, h⟩ := hq
        rw [hSx] at hR
        refine hp_if_eq E dX7_asks_34 (rfl : 34 + 3 = 37) (tgt := 41) (by decide) (fun hb => ?_) (fun hb => ?_)
        · have h := h.1 hb
          refine hp_iconst E (0 : Int32) (by decide) dX7_asks_41 (rfl : 41 + 1 = 42) ?_
          refine hp_goto E (tgt := 65) dX7_asks_42 (by decide) ?_
          exact b65 _ _ _ _ _ h (lv_sub hl [] rfl) hR hm
        · have h := h.2 hb
          refine hp_iconst E (1 : Int32) (by decide) dX7_asks_37 (rfl : 37 + 1 = 38) ?_
          refine hp_goto E (tgt := 65) dX7_asks_38 (by decide) ?_
          exact b65 _ _ _ _ _ h (lv_sub hl [] rfl) hR hm
      · have h := h.2 hb
        refine hp_iload_n E hl 2 rfl 2 rfl dX7_asks_45 (rfl : 45 + 1 = 46) ?_
        refine hp_iconst E (1 : Int32) (by decide) dX7_asks_46 (rfl : 46 + 1 = 47) ?_
        refine hp_icmp_ne E dX7_asks_47 (rfl : 47 + 3 = 50) (tgt := 59) (by decide) (fun hb => ?_) (fun hb => ?_)
        · have h := h.1 hb
          refine hp_aload_n E hl 0 rfl 0 rfl dX7_asks_50 (rfl : 50 + 1 = 51) ?_
          refine hp_iload_n E hl 1 rfl 1 rfl dX7_asks_51 (rfl : 51 + 1 = 52) ?_
          refine hp_iconst E (-1 : Int32) (by decide) dX7_asks_52 (rfl : 52 + 1 = 53) ?_
          refine hp_fi (hp_rV E hR hl (m_X7_priceOf G _ _ _ _ _ (hp_mono.c hm hc0) h) (hp_mono.c hm hc0) (ci := 6) rfl rfl q1531 q1533 qs48 q82 q1534 nf_X7_priceOf ⟨Nat.le_of_ble_eq_true rfl, Nat.le_of_ble_eq_true rfl⟩ (rest := []) rfl (Nat.le_of_ble_eq_true rfl) dX7_asks_53 ⟨Nat.le_of_ble_eq_true rfl, Nat.le_of_ble_eq_true rfl⟩) hR (rfl : 53 + 3 = 56) (fun z7 Sx H locs hq hR => ?_)
          obtain ⟨hSx, h⟩ := hq
          rw [hSx] at hR
          refine hp_goto E (tgt := 65) dX7_asks_56 (by decide) ?_
          exact b65 _ _ _ _ _ h (lv_sub hl [] rfl) hR hm
        · have h := h.2 hb
          refine hp_aload_n E hl 0 rfl 0 rfl dX7_asks_59 (rfl : 59 + 1 = 60) ?_
          refine hp_iload_n E hl 1 rfl 1 rfl dX7_asks_60 (rfl : 60 + 1 = 61) ?_
          refine hp_iconst E (-1 : Int32) (by decide) dX7_asks_61 (rfl : 61 + 1 = 62) ?_
          refine hp_fi (hp_rV E hR hl (m_X7_lumpOf G _ _ _ _ _ (hp_mono.c hm hc0) h) (hp_mono.c hm hc0) (ci := 6) rfl rfl q1535 q1537 qs49 q82 q1538 nf_X7_lumpOf ⟨Nat.le_of_ble_eq_true rfl, Nat.le_of_ble_eq_true rfl⟩ (rest := []) rfl (Nat.le_of_ble_eq_true rfl) dX7_asks_62 ⟨Nat.le_of_ble_eq_true rfl, Nat.le_of_ble_eq_true rfl⟩) hR (rfl : 62 + 3 = 65) (fun z8 Sx H locs hq hR => ?_)
          obtain ⟨hSx, h⟩ := hq
          rw [hSx] at hR
          exact b65 _ _ _ _ _ h (lv_sub hl [] rfl) hR hm
def wb_X7_isHolder_15 (a0 : Int32) (t0 : Int32) (S : hp_St) (Q : Int32 → Prop) : Prop := (t0 = 0 ∨ t0 = 1) ∧ Q t0
def wb_X7_isHolder_14 (a0 : Int32) (S : hp_St) (Q : Int32 → Prop) : Prop := wb_X7_isHolder_15 a0 (0 : Int32) S Q
def wp_X7_isHolder (a0 : Int32) (S : hp_St) (Q : Int32 → Prop) : Prop := (((a0 < 0) → wb_X7_isHolder_14 a0 S Q) ∧ ((¬ (a0 < 0)) → (((a0 < (8 : Int32)) → wb_X7_isHolder_15 a0 (1 : Int32) S Q) ∧ ((¬ (a0 < (8 : Int32))) → wb_X7_isHolder_14 a0 S Q))))
theorem nf_X7_isHolder : hp_nf yX7_isHolder 1 = true := by decide +kernel
set_option maxHeartbeats 4000000 in
theorem m_X7_isHolder {l : Launch} {B : Nat} {D : va_G} {s0 : State} {b0 : Nat} (G : hp_G l B D s0 b0) (a0 : Int32) (Si : hp_St) (Q : Int32 → Prop) (h : wp_X7_isHolder a0 Si Q) : hp_M l B D s0 yX7_isHolder cX7_isHolder 1 (some .boolean) 2 128 0 0 [.int a0] Si (hp_Qi B D s0 (fun r S' => S' = Si ∧ Q r)) := by
  refine hp_start G (by decide +kernel) rfl rfl (lv := [(0, .int a0)]) (by simp [lg_sl, hp_vc, hp_ci, hp_cj]) (by simp [lv_args, hp_vc, hp_ci, hp_cj]) ?_
  intro p e s m args below meth c E ls hl hR
  generalize hH : s.heap = H at hR ⊢
  generalize hLo : ([] : List Loc) = locs at hR ⊢
  have b15 : ∀ (t0 : Int32) (H : Heap) (locs : List Loc) (ls : Array Slot), wb_X7_isHolder_15 a0 t0 Si Q → lv_has ls 1 [] → hp_S B D s0 Si H locs → W p l e ({ frames := 2, cells := 0, slots := 0, locals := 128 } : Room) s m args below meth c H locs 0 0 (MQ below (hp_Qi B D s0 (fun r S' => S' = Si ∧ Q r)) args s 0 0 (fun q => B < q)) (F0 m 15 ls [.int t0]) := by
    intro t0 H locs ls h hl hR
    unfold wb_X7_isHolder_15 at h
    obtain ⟨hz1501, h⟩ := h
    exact hp_zret E hR hz1501 ⟨rfl, h⟩ (Nat.le_of_ble_eq_true rfl) (Nat.le_of_ble_eq_true rfl) dX7_isHolder_15
  have b14 : ∀ (H : Heap) (locs : List Loc) (ls : Array Slot), wb_X7_isHolder_14 a0 Si Q → lv_has ls 1 [] → hp_S B D s0 Si H locs → W p l e ({ frames := 2, cells := 0, slots := 0, locals := 128 } : Room) s m args below meth c H locs 0 0 (MQ below (hp_Qi B D s0 (fun r S' => S' = Si ∧ Q r)) args s 0 0 (fun q => B < q)) (F0 m 14 ls []) := by
    intro  H locs ls h hl hR
    unfold wb_X7_isHolder_14 at h
    refine hp_iconst E (0 : Int32) (by decide) dX7_isHolder_14 (rfl : 14 + 1 = 15) ?_
    exact b15 _ _ _ _ h hl hR
  unfold wp_X7_isHolder at h
  refine hp_iload_n E hl 0 rfl 0 rfl dX7_isHolder_0 (rfl : 0 + 1 = 1) ?_
  refine hp_if_lt E dX7_isHolder_1 (rfl : 1 + 3 = 4) (tgt := 14) (by decide) (fun hb => ?_) (fun hb => ?_)
  · have h := h.1 hb
    exact b14 _ _ _ h (lv_sub hl [] rfl) hR
  · have h := h.2 hb
    refine hp_iload_n E hl 0 rfl 0 rfl dX7_isHolder_4 (rfl : 4 + 1 = 5) ?_
    refine hp_bipush E (8 : Int32) (by decide) dX7_isHolder_5 (rfl : 5 + 2 = 7) ?_
    refine hp_icmp_ge E dX7_isHolder_7 (rfl : 7 + 3 = 10) (tgt := 14) (by decide) (fun hb => ?_) (fun hb => ?_)
    · have h := h.1 hb
      refine hp_iconst E (1 : Int32) (by decide) dX7_isHolder_10 (rfl : 10 + 1 = 11) ?_
      refine hp_goto E (tgt := 15) dX7_isHolder_11 (by decide) ?_
      exact b15 _ _ _ _ h (lv_sub hl [] rfl) hR
    · have h := h.2 hb
      exact b14 _ _ _ h (lv_sub hl [] rfl) hR
def wb_X7_rent_67 (o : Nat) (a1 : Int32) (a2 : Int32) (a3 : Int32) (a4 : Int32) (S : hp_St) (Q : Int32 → hp_St → Prop) : Prop := Q (-1 : Int32) S
def wb_X7_rent_47 (o : Nat) (a1 : Int32) (a2 : Int32) (a3 : Int32) (a4 : Int32) (S : hp_St) (Q : Int32 → hp_St → Prop) : Prop := wp_X7_isIn a4 (1 : Int32) (99 : Int32) S (fun z4701 => (((z4701 = 0) → wb_X7_rent_67 o a1 a2 a3 a4 S Q) ∧ ((¬ (z4701 = 0)) → wp_X7_mayBe o a2 a3 S (fun z4702 => (((z4702 = 0) → wb_X7_rent_67 o a1 a2 a3 a4 S Q) ∧ ((¬ (z4702 = 0)) → (st_C S (st_R S o 8) = 50) ∧ (vp_in (st_I S o 7) (st_L S (st_R S o 8))) ∧ (∀ S4705, S4705 = st_pI S (st_R S o 8) (st_I S o 7).toNatClampNeg (st_I S o 3) → (st_C S4705 (st_R S4705 o 9) = 50) ∧ (vp_in (st_I S4705 o 7) (st_L S4705 (st_R S4705 o 9))) ∧ (∀ S4710, S4710 = st_pI S4705 (st_R S4705 o 9) (st_I S4705 o 7).toNatClampNeg a1 → (st_C S4710 (st_R S4710 o 10) = 50) ∧ (vp_in (st_I S4710 o 7) (st_L S4710 (st_R S4710 o 10))) ∧ (∀ S4715, S4715 = st_pI S4710 (st_R S4710 o 10) (st_I S4710 o 7).toNatClampNeg a2 → (st_C S4715 (st_R S4715 o 11) = 50) ∧ (vp_in (st_I S4715 o 7) (st_L S4715 (st_R S4715 o 11))) ∧ (∀ S4720, S4720 = st_pI S4715 (st_R S4715 o 11) (st_I S4715 o 7).toNatClampNeg a3 → (st_C S4720 (st_R S4720 o 12) = 50) ∧ (vp_in (st_I S4720 o 7) (st_L S4720 (st_R S4720 o 12))) ∧ (∀ S4725, S4725 = st_pI S4720 (st_R S4720 o 12) (st_I S4720 o 7).toNatClampNeg a4 → wp_X7_priceOf o a2 a3 S4725 (fun z4728 => (st_C S4725 (st_R S4725 o 13) = 50) ∧ (vp_in (st_I S4725 o 7) (st_L S4725 (st_R S4725 o 13))) ∧ (∀ S4731, S4731 = st_pI S4725 (st_R S4725 o 13) (st_I S4725 o 7).toNatClampNeg (a4 * z4728) → (∀ S4734, S4734 = st_pI S4731 o 7 ((st_I S4731 o 7) + (1 : Int32)) → Q ((st_I S4734 o 7) - (1 : Int32)) S4734))))))))))))))
def wp_X7_rent (o : Nat) (a1 : Int32) (a2 : Int32) (a3 : Int32) (a4 : Int32) (S : hp_St) (Q : Int32 → hp_St → Prop) : Prop := (∀ S1, S1 = st_pI S o 2 (0 : Int32) → ((((st_I S1 o 7) = (16 : Int32)) → wb_X7_rent_67 o a1 a2 a3 a4 S1 Q) ∧ ((¬ ((st_I S1 o 7) = (16 : Int32))) → wp_X7_isHolder a1 S1 (fun z4 => (((z4 = 0) → wb_X7_rent_67 o a1 a2 a3 a4 S1 Q) ∧ ((¬ (z4 = 0)) → wp_X7_isLife o a2 S1 (fun z5 => (((z5 = 0) → wb_X7_rent_67 o a1 a2 a3 a4 S1 Q) ∧ ((¬ (z5 = 0)) → (((a3 = (-1 : Int32)) → wb_X7_rent_47 o a1 a2 a3 a4 S1 Q) ∧ ((¬ (a3 = (-1 : Int32))) → wp_X7_isLife o a3 S1 (fun z6 => (((z6 = 0) → wb_X7_rent_67 o a1 a2 a3 a4 S1 Q) ∧ ((¬ (z6 = 0)) → (((a2 = a3) → wb_X7_rent_67 o a1 a2 a3 a4 S1 Q) ∧ ((¬ (a2 = a3)) → wb_X7_rent_47 o a1 a2 a3 a4 S1 Q))))))))))))))))
theorem nf_X7_rent : hp_nf yX7_rent 4 = true := by decide +kernel
set_option maxHeartbeats 4000000 in
theorem m_X7_rent {l : Launch} {B : Nat} {D : va_G} {s0 : State} {b0 : Nat} (G : hp_G l B D s0 b0) (o : Nat) (a1 : Int32) (a2 : Int32) (a3 : Int32) (a4 : Int32) (Si : hp_St) (Q : Int32 → hp_St → Prop) (hc0 : st_C Si o = 7) (h : wp_X7_rent o a1 a2 a3 a4 Si Q) : hp_M l B D s0 yX7_rent cX7_rent 5 (some .int) 5 320 0 0 [hp_v B o, .int a1, .int a2, .int a3, .int a4] Si (hp_Qi B D s0 (fun r S' => hp_mono Si S' ∧ Q r S')) := by
  refine hp_start G (by decide +kernel) rfl rfl (lv := [(0, hp_v B o), (1, .int a1), (2, .int a2), (3, .int a3), (4, .int a4)]) (by simp [lg_sl, hp_vc, hp_ci, hp_cj]) (by simp [lv_args, hp_vc, hp_ci, hp_cj]) ?_
  intro p e s m args below meth c E ls hl hR
  have hm : hp_mono Si Si := hp_mono.rf
  generalize hH : s.heap = H at hR ⊢
  generalize hLo : ([] : List Loc) = locs at hR ⊢
  have b67 : ∀ (S : hp_St) (H : Heap) (locs : List Loc) (ls : Array Slot), wb_X7_rent_67 o a1 a2 a3 a4 S Q → lv_has ls 5 [] → hp_S B D s0 S H locs → hp_mono Si S → W p l e ({ frames := 5, cells := 0, slots := 0, locals := 320 } : Room) s m args below meth c H locs 0 0 (MQ below (hp_Qi B D s0 (fun r S' => hp_mono Si S' ∧ Q r S')) args s 0 0 (fun q => B < q)) (F0 m 67 ls []) := by
    intro S H locs ls h hl hR hm
    unfold wb_X7_rent_67 at h
    refine hp_iconst E (-1 : Int32) (by decide) dX7_rent_67 (rfl : 67 + 1 = 68) ?_
    exact hp_iret E hR ⟨hm, h⟩ (Nat.le_of_ble_eq_true rfl) (Nat.le_of_ble_eq_true rfl) dX7_rent_68
  have b47 : ∀ (S : hp_St) (H : Heap) (locs : List Loc) (ls : Array Slot), wb_X7_rent_47 o a1 a2 a3 a4 S Q → lv_has ls 5 [(0, hp_v B o), (1, .int a1), (2, .int a2), (3, .int a3), (4, .int a4)] → hp_S B D s0 S H locs → hp_mono Si S → W p l e ({ frames := 5, cells := 0, slots := 0, locals := 320 } : Room) s m args below meth c H locs 0 0 (MQ below (hp_Qi B D s0 (fun r S' => hp_mono Si S' ∧ Q r S')) args s 0 0 (fun q => B < q)) (F0 m 47 ls []) := by
    intro S H locs ls h hl hR hm
    unfold wb_X7_rent_47 at h
    refine hp_iload E hl 4 rfl dX7_rent_47 (rfl : 47 + 2 = 49) ?_
    refine hp_iconst E (1 : Int32) (by decide) dX7_rent_49 (rfl : 49 + 1 = 50) ?_
    refine hp_bipush E (99 : Int32) (by decide) dX7_rent_50 (rfl : 50 + 2 = 52) ?_
    refine hp_fi (hp_rS E hR hl (m_X7_isIn G _ _ _ _ _ h) q1504 q1505 q82 q1506 nf_X7_isIn ⟨Nat.le_of_ble_eq_true rfl, Nat.le_of_ble_eq_true rfl⟩ (rest := []) rfl (Nat.le_of_ble_eq_true rfl) dX7_rent_52 ⟨Nat.le_of_ble_eq_true rfl, Nat.le_of_ble_eq_true rfl⟩) hR (rfl : 52 + 3 = 55) (fun z4701 Sx H locs hq hR => ?_)
    obtain ⟨hSx, h⟩ := hq
    rw [hSx] at hR
    refine hp_if_eq E dX7_rent_55 (rfl : 55 + 3 = 58) (tgt := 67) (by decide) (fun hb => ?_) (fun hb => ?_)
    · have h := h.1 hb
      exact b67 _ _ _ _ h (lv_sub hl [] rfl) hR hm
    · have h := h.2 hb
      refine hp_aload_n E hl 0 rfl 0 rfl dX7_rent_58 (rfl : 58 + 1 = 59) ?_
      refine hp_iload_n E hl 2 rfl 2 rfl dX7_rent_59 (rfl : 59 + 1 = 60) ?_
      refine hp_iload_n E hl 3 rfl 3 rfl dX7_rent_60 (rfl : 60 + 1 = 61) ?_
      refine hp_fi (hp_rV E hR hl (m_X7_mayBe G _ _ _ _ _ (hp_mono.c hm hc0) h) (hp_mono.c hm hc0) (ci := 6) rfl rfl q1519 q1521 qs45 q82 q1522 nf_X7_mayBe ⟨Nat.le_of_ble_eq_true rfl, Nat.le_of_ble_eq_true rfl⟩ (rest := []) rfl (Nat.le_of_ble_eq_true rfl) dX7_rent_61 ⟨Nat.le_of_ble_eq_true rfl, Nat.le_of_ble_eq_true rfl⟩) hR (rfl : 61 + 3 = 64) (fun z4702 Sx H locs hq hR => ?_)
      obtain ⟨hSx, h⟩ := hq
      rw [hSx] at hR
      refine hp_if_ne E dX7_rent_64 (rfl : 64 + 3 = 67) (tgt := 69) (by decide) (fun hb => ?_) (fun hb => ?_)
      · have h := h.1 hb
        exact b67 _ _ _ _ h (lv_sub hl [] rfl) hR hm
      · have h := h.2 hb
        refine hp_aload_n E hl 0 rfl 0 rfl dX7_rent_69 (rfl : 69 + 1 = 70) ?_
        refine hp_getR E hR in_X7 (hp_mono.c hm hc0) rfl 8 (Nat.le_of_ble_eq_true rfl) rfl q1269 (fun _ h => h) dX7_rent_70 (rfl : 70 + 3 = 73) ?_
        refine hp_aload_n E hl 0 rfl 0 rfl dX7_rent_73 (rfl : 73 + 1 = 74) ?_
        refine hp_getI E hR in_X7 (hp_mono.c hm hc0) rfl 7 (Nat.le_of_ble_eq_true rfl) rfl q1268 (fun _ h => h) dX7_rent_74 (rfl : 74 + 3 = 77) ?_
        refine hp_aload_n E hl 0 rfl 0 rfl dX7_rent_77 (rfl : 77 + 1 = 78) ?_
        refine hp_getI E hR in_X7 (hp_mono.c hm hc0) rfl 3 (Nat.le_of_ble_eq_true rfl) rfl q1264 (fun _ h => h) dX7_rent_78 (rfl : 78 + 3 = 81) ?_
        obtain ⟨hc4703, h⟩ := h
        obtain ⟨hi4704, h⟩ := h
        refine hx_iast E hR hc4703 hi4704 dX7_rent_81 (rfl : 81 + 1 = 82) (fun S4705 H locs e4707 hm4706 hR => ?_)
        have h := h S4705 e4707
        have hm := hp_mono.tr hm hm4706
        refine hp_aload_n E hl 0 rfl 0 rfl dX7_rent_82 (rfl : 82 + 1 = 83) ?_
        refine hp_getR E hR in_X7 (hp_mono.c hm hc0) rfl 9 (Nat.le_of_ble_eq_true rfl) rfl q1270 (fun _ h => h) dX7_rent_83 (rfl : 83 + 3 = 86) ?_
        refine hp_aload_n E hl 0 rfl 0 rfl dX7_rent_86 (rfl : 86 + 1 = 87) ?_
        refine hp_getI E hR in_X7 (hp_mono.c hm hc0) rfl 7 (Nat.le_of_ble_eq_true rfl) rfl q1268 (fun _ h => h) dX7_rent_87 (rfl : 87 + 3 = 90) ?_
        refine hp_iload_n E hl 1 rfl 1 rfl dX7_rent_90 (rfl : 90 + 1 = 91) ?_
        obtain ⟨hc4708, h⟩ := h
        obtain ⟨hi4709, h⟩ := h
        refine hx_iast E hR hc4708 hi4709 dX7_rent_91 (rfl : 91 + 1 = 92) (fun S4710 H locs e4712 hm4711 hR => ?_)
        have h := h S4710 e4712
        have hm := hp_mono.tr hm hm4711
        refine hp_aload_n E hl 0 rfl 0 rfl dX7_rent_92 (rfl : 92 + 1 = 93) ?_
        refine hp_getR E hR in_X7 (hp_mono.c hm hc0) rfl 10 (Nat.le_of_ble_eq_true rfl) rfl q1271 (fun _ h => h) dX7_rent_93 (rfl : 93 + 3 = 96) ?_
        refine hp_aload_n E hl 0 rfl 0 rfl dX7_rent_96 (rfl : 96 + 1 = 97) ?_
        refine hp_getI E hR in_X7 (hp_mono.c hm hc0) rfl 7 (Nat.le_of_ble_eq_true rfl) rfl q1268 (fun _ h => h) dX7_rent_97 (rfl : 97 + 3 = 100) ?_
        refine hp_iload_n E hl 2 rfl 2 rfl dX7_rent_100 (rfl : 100 + 1 = 101) ?_
        obtain ⟨hc4713, h⟩ := h
        obtain ⟨hi4714, h⟩ := h
        refine hx_iast E hR hc4713 hi4714 dX7_rent_101 (rfl : 101 + 1 = 102) (fun S4715 H locs e4717 hm4716 hR => ?_)
        have h := h S4715 e4717
        have hm := hp_mono.tr hm hm4716
        refine hp_aload_n E hl 0 rfl 0 rfl dX7_rent_102 (rfl : 102 + 1 = 103) ?_
        refine hp_getR E hR in_X7 (hp_mono.c hm hc0) rfl 11 (Nat.le_of_ble_eq_true rfl) rfl q1272 (fun _ h => h) dX7_rent_103 (rfl : 103 + 3 = 106) ?_
        refine hp_aload_n E hl 0 rfl 0 rfl dX7_rent_106 (rfl : 106 + 1 = 107) ?_
        refine hp_getI E hR in_X7 (hp_mono.c hm hc0) rfl 7 (Nat.le_of_ble_eq_true rfl) rfl q1268 (fun _ h => h) dX7_rent_107 (rfl : 107 + 3 = 110) ?_
        refine hp_iload_n E hl 3 rfl 3 rfl dX7_rent_110 (rfl : 110 + 1 = 111) ?_
        obtain ⟨hc4718, h⟩ := h
        obtain ⟨hi4719, h⟩ := h
        refine hx_iast E hR hc4718 hi4719 dX7_rent_111 (rfl : 111 + 1 = 112) (fun S4720 H locs e4722 hm4721 hR => ?_)
        have h := h S4720 e4722
        have hm := hp_mono.tr hm hm4721
        refine hp_aload_n E hl 0 rfl 0 rfl dX7_rent_112 (rfl : 112 + 1 = 113) ?_
        refine hp_getR E hR in_X7 (hp_mono.c hm hc0) rfl 12 (Nat.le_of_ble_eq_true rfl) rfl q1273 (fun _ h => h) dX7_rent_113 (rfl : 113 + 3 = 116) ?_
        refine hp_aload_n E hl 0 rfl 0 rfl dX7_rent_116 (rfl : 116 + 1 = 117) ?_
        refine hp_getI E hR in_X7 (hp_mono.c hm hc0) rfl 7 (Nat.le_of_ble_eq_true rfl) rfl q1268 (fun _ h => h) dX7_rent_117 (rfl : 117 + 3 = 120) ?_
        refine hp_iload E hl 4 rfl dX7_rent_120 (rfl : 120 + 2 = 122) ?_
        obtain ⟨hc4723, h⟩ := h
        obtain ⟨hi4724, h⟩ := h
        refine hx_iast E hR hc4723 hi4724 dX7_rent_122 (rfl : 122 + 1 = 123) (fun S4725 H locs e4727 hm4726 hR => ?_)
        have h := h S4725 e4727
        have hm := hp_mono.tr hm hm4726
        refine hp_aload_n E hl 0 rfl 0 rfl dX7_rent_123 (rfl : 123 + 1 = 124) ?_
        refine hp_getR E hR in_X7 (hp_mono.c hm hc0) rfl 13 (Nat.le_of_ble_eq_true rfl) rfl q1274 (fun _ h => h) dX7_rent_124 (rfl : 124 + 3 = 127) ?_
        refine hp_aload_n E hl 0 rfl 0 rfl dX7_rent_127 (rfl : 127 + 1 = 128) ?_
        refine hp_getI E hR in_X7 (hp_mono.c hm hc0) rfl 7 (Nat.le_of_ble_eq_true rfl) rfl q1268 (fun _ h => h) dX7_rent_128 (rfl : 128 + 3 = 131) ?_
        refine hp_iload E hl 4 rfl dX7_rent_131 (rfl : 131 + 2 = 133) ?_
        refine hp_aload_n E hl 0 rfl 0 rfl dX7_rent_133 (rfl : 133 + 1 = 134) ?_
        refine hp_iload_n E hl 2 rfl 2 rfl dX7_rent_134 (rfl : 134 + 1 = 135) ?_
        refine hp_iload_n E hl 3 rfl 3 rfl dX7_rent_135 (rfl : 135 + 1 = 136) ?_
        refine hp_fi (hp_rV E hR hl (m_X7_priceOf G _ _ _ _ _ (hp_mono.c hm hc0) h) (hp_mono.c hm hc0) (ci := 6) rfl rfl q1531 q1533 qs48 q82 q1534 nf_X7_priceOf ⟨Nat.le_of_ble_eq_true rfl, Nat.le_of_ble_eq_true rfl⟩ (rest := [.int a4, .int (st_I S4725 o 7), hp_v B (st_R S4725 o 13)]) rfl (Nat.le_of_ble_eq_true rfl) dX7_rent_136 ⟨Nat.le_of_ble_eq_true rfl, Nat.le_of_ble_eq_true rfl⟩) hR (rfl : 136 + 3 = 139) (fun z4728 Sx H locs hq hR => ?_)
        obtain ⟨hSx, h⟩ := hq
        rw [hSx] at hR
        refine hp_imul E dX7_rent_139 (rfl : 139 + 1 = 140) ?_
        obtain ⟨hc4729, h⟩ := h
        obtain ⟨hi4730, h⟩ := h
        refine hx_iast E hR hc4729 hi4730 dX7_rent_140 (rfl : 140 + 1 = 141) (fun S4731 H locs e4733 hm4732 hR => ?_)
        have h := h S4731 e4733
        have hm := hp_mono.tr hm hm4732
        refine hp_aload_n E hl 0 rfl 0 rfl dX7_rent_141 (rfl : 141 + 1 = 142) ?_
        refine hp_dup E hp_vc dX7_rent_142 (rfl : 142 + 1 = 143) ?_
        refine hp_getI E hR in_X7 (hp_mono.c hm hc0) rfl 7 (Nat.le_of_ble_eq_true rfl) rfl q1268 (fun _ h => h) dX7_rent_143 (rfl : 143 + 3 = 146) ?_
        refine hp_iconst E (1 : Int32) (by decide) dX7_rent_146 (rfl : 146 + 1 = 147) ?_
        refine hp_iadd E dX7_rent_147 (rfl : 147 + 1 = 148) ?_
        refine hx_putI E hR in_X7 tyX7 tyX7_ok nmX7 (hp_mono.c hm hc0) rfl 7 (Nat.le_of_ble_eq_true rfl) rfl q1268 (fun _ h => h) (Or.inl rfl) (Or.inl rfl) dX7_rent_148 (rfl : 148 + 3 = 151) (fun S4734 H locs e4736 hm4735 hR => ?_)
        have h := h S4734 e4736
        have hm := hp_mono.tr hm hm4735
        refine hp_aload_n E hl 0 rfl 0 rfl dX7_rent_151 (rfl : 151 + 1 = 152) ?_
        refine hp_getI E hR in_X7 (hp_mono.c hm hc0) rfl 7 (Nat.le_of_ble_eq_true rfl) rfl q1268 (fun _ h => h) dX7_rent_152 (rfl : 152 + 3 = 155) ?_
        refine hp_iconst E (1 : Int32) (by decide) dX7_rent_155 (rfl : 155 + 1 = 156) ?_
        refine hp_isub E dX7_rent_156 (rfl : 156 + 1 = 157) ?_
        exact hp_iret E hR ⟨hm, h⟩ (Nat.le_of_ble_eq_true rfl) (Nat.le_of_ble_eq_true rfl) dX7_rent_157
  unfold wp_X7_rent at h
  refine hp_aload_n E hl 0 rfl 0 rfl dX7_rent_0 (rfl : 0 + 1 = 1) ?_
  refine hp_iconst E (0 : Int32) (by decide) dX7_rent_1 (rfl : 1 + 1 = 2) ?_
  refine hx_putI E hR in_X7 tyX7 tyX7_ok nmX7 hc0 rfl 2 (Nat.le_of_ble_eq_true rfl) rfl q1263 (fun _ h => h) (Or.inl rfl) (Or.inl rfl) dX7_rent_2 (rfl : 2 + 3 = 5) (fun S1 H locs e3 hm2 hR => ?_)
  have h := h S1 e3
  have hm := hp_mono.tr hm hm2
  refine hp_aload_n E hl 0 rfl 0 rfl dX7_rent_5 (rfl : 5 + 1 = 6) ?_
  refine hp_getI E hR in_X7 (hp_mono.c hm hc0) rfl 7 (Nat.le_of_ble_eq_true rfl) rfl q1268 (fun _ h => h) dX7_rent_6 (rfl : 6 + 3 = 9) ?_
  refine hp_bipush E (16 : Int32) (by decide) dX7_rent_9 (rfl : 9 + 2 = 11) ?_
  refine hp_icmp_eq E dX7_rent_11 (rfl : 11 + 3 = 14) (tgt := 67) (by decide) (fun hb => ?_) (fun hb => ?_)
  · have h := h.1 hb
    exact b67 _ _ _ _ h (lv_sub hl [] rfl) hR hm
  · have h := h.2 hb
    refine hp_iload_n E hl 1 rfl 1 rfl dX7_rent_14 (rfl : 14 + 1 = 15) ?_
    refine hp_fi (hp_rS E hR hl (m_X7_isHolder G _ _ _ h) q1543 q1544 q82 q1545 nf_X7_isHolder ⟨Nat.le_of_ble_eq_true rfl, Nat.le_of_ble_eq_true rfl⟩ (rest := []) rfl (Nat.le_of_ble_eq_true rfl) dX7_rent_15 ⟨Nat.le_of_ble_eq_true rfl, Nat.le_of_ble_eq_true rfl⟩) hR (rfl : 15 + 3 = 18) (fun z4 Sx H locs hq hR => ?_)
    obtain ⟨hSx, h⟩ := hq
    rw [hSx] at hR
    refine hp_if_eq E dX7_rent_18 (rfl : 18 + 3 = 21) (tgt := 67) (by decide) (fun hb => ?_) (fun hb => ?_)
    · have h := h.1 hb
      exact b67 _ _ _ _ h (lv_sub hl [] rfl) hR hm
    · have h := h.2 hb
      refine hp_aload_n E hl 0 rfl 0 rfl dX7_rent_21 (rfl : 21 + 1 = 22) ?_
      refine hp_iload_n E hl 2 rfl 2 rfl dX7_rent_22 (rfl : 22 + 1 = 23) ?_
      refine hp_fi (hp_rV E hR hl (m_X7_isLife G _ _ _ _ (hp_mono.c hm hc0) h) (hp_mono.c hm hc0) (ci := 6) rfl rfl q1515 q1517 qs44 q82 q1518 nf_X7_isLife ⟨Nat.le_of_ble_eq_true rfl, Nat.le_of_ble_eq_true rfl⟩ (rest := []) rfl (Nat.le_of_ble_eq_true rfl) dX7_rent_23 ⟨Nat.le_of_ble_eq_true rfl, Nat.le_of_ble_eq_true rfl⟩) hR (rfl : 23 + 3 = 26) (fun z5 Sx H locs hq hR => ?_)
      obtain ⟨hSx, h⟩ := hq
      rw [hSx] at hR
      refine hp_if_eq E dX7_rent_26 (rfl : 26 + 3 = 29) (tgt := 67) (by decide) (fun hb => ?_) (fun hb => ?_)
      · have h := h.1 hb
        exact b67 _ _ _ _ h (lv_sub hl [] rfl) hR hm
      · have h := h.2 hb
        refine hp_iload_n E hl 3 rfl 3 rfl dX7_rent_29 (rfl : 29 + 1 = 30) ?_
        refine hp_iconst E (-1 : Int32) (by decide) dX7_rent_30 (rfl : 30 + 1 = 31) ?_
        refine hp_icmp_eq E dX7_rent_31 (rfl : 31 + 3 = 34) (tgt := 47) (by decide) (fun hb => ?_) (fun hb => ?_)
        · have h := h.1 hb
          exact b47 _ _ _ _ h hl hR hm
        · have h := h.2 hb
          refine hp_aload_n E hl 0 rfl 0 rfl dX7_rent_34 (rfl : 34 + 1 = 35) ?_
          refine hp_iload_n E hl 3 rfl 3 rfl dX7_rent_35 (rfl : 35 + 1 = 36) ?_
          refine hp_fi (hp_rV E hR hl (m_X7_isLife G _ _ _ _ (hp_mono.c hm hc0) h) (hp_mono.c hm hc0) (ci := 6) rfl rfl q1515 q1517 qs44 q82 q1518 nf_X7_isLife ⟨Nat.le_of_ble_eq_true rfl, Nat.le_of_ble_eq_true rfl⟩ (rest := []) rfl (Nat.le_of_ble_eq_true rfl) dX7_rent_36 ⟨Nat.le_of_ble_eq_true rfl, Nat.le_of_ble_eq_true rfl⟩) hR (rfl : 36 + 3 = 39) (fun z6 Sx H locs hq hR => ?_)
          obtain ⟨hSx, h⟩ := hq
          rw [hSx] at hR
          refine hp_if_eq E dX7_rent_39 (rfl : 39 + 3 = 42) (tgt := 67) (by decide) (fun hb => ?_) (fun hb => ?_)
          · have h := h.1 hb
            exact b67 _ _ _ _ h (lv_sub hl [] rfl) hR hm
          · have h := h.2 hb
            refine hp_iload_n E hl 2 rfl 2 rfl dX7_rent_42 (rfl : 42 + 1 = 43) ?_
            refine hp_iload_n E hl 3 rfl 3 rfl dX7_rent_43 (rfl : 43 + 1 = 44) ?_
            refine hp_icmp_eq E dX7_rent_44 (rfl : 44 + 3 = 47) (tgt := 67) (by decide) (fun hb => ?_) (fun hb => ?_)
            · have h := h.1 hb
              exact b67 _ _ _ _ h (lv_sub hl [] rfl) hR hm
            · have h := h.2 hb
              exact b47 _ _ _ _ h hl hR hm
def wb_X7_isRent_17 (o : Nat) (a1 : Int32) (t0 : Int32) (S : hp_St) (Q : Int32 → Prop) : Prop := (t0 = 0 ∨ t0 = 1) ∧ Q t0
def wb_X7_isRent_16 (o : Nat) (a1 : Int32) (S : hp_St) (Q : Int32 → Prop) : Prop := wb_X7_isRent_17 o a1 (0 : Int32) S Q
def wp_X7_isRent (o : Nat) (a1 : Int32) (S : hp_St) (Q : Int32 → Prop) : Prop := (((a1 < 0) → wb_X7_isRent_16 o a1 S Q) ∧ ((¬ (a1 < 0)) → (((a1 < (st_I S o 7)) → wb_X7_isRent_17 o a1 (1 : Int32) S Q) ∧ ((¬ (a1 < (st_I S o 7))) → wb_X7_isRent_16 o a1 S Q))))
theorem nf_X7_isRent : hp_nf yX7_isRent 1 = true := by decide +kernel
set_option maxHeartbeats 4000000 in
theorem m_X7_isRent {l : Launch} {B : Nat} {D : va_G} {s0 : State} {b0 : Nat} (G : hp_G l B D s0 b0) (o : Nat) (a1 : Int32) (Si : hp_St) (Q : Int32 → Prop) (hc0 : st_C Si o = 7) (h : wp_X7_isRent o a1 Si Q) : hp_M l B D s0 yX7_isRent cX7_isRent 2 (some .boolean) 2 128 0 0 [hp_v B o, .int a1] Si (hp_Qi B D s0 (fun r S' => S' = Si ∧ Q r)) := by
  refine hp_start G (by decide +kernel) rfl rfl (lv := [(0, hp_v B o), (1, .int a1)]) (by simp [lg_sl, hp_vc, hp_ci, hp_cj]) (by simp [lv_args, hp_vc, hp_ci, hp_cj]) ?_
  intro p e s m args below meth c E ls hl hR
  generalize hH : s.heap = H at hR ⊢
  generalize hLo : ([] : List Loc) = locs at hR ⊢
  have b17 : ∀ (t0 : Int32) (H : Heap) (locs : List Loc) (ls : Array Slot), wb_X7_isRent_17 o a1 t0 Si Q → lv_has ls 2 [] → hp_S B D s0 Si H locs → W p l e ({ frames := 2, cells := 0, slots := 0, locals := 128 } : Room) s m args below meth c H locs 0 0 (MQ below (hp_Qi B D s0 (fun r S' => S' = Si ∧ Q r)) args s 0 0 (fun q => B < q)) (F0 m 17 ls [.int t0]) := by
    intro t0 H locs ls h hl hR
    unfold wb_X7_isRent_17 at h
    obtain ⟨hz1701, h⟩ := h
    exact hp_zret E hR hz1701 ⟨rfl, h⟩ (Nat.le_of_ble_eq_true rfl) (Nat.le_of_ble_eq_true rfl) dX7_isRent_17
  have b16 : ∀ (H : Heap) (locs : List Loc) (ls : Array Slot), wb_X7_isRent_16 o a1 Si Q → lv_has ls 2 [] → hp_S B D s0 Si H locs → W p l e ({ frames := 2, cells := 0, slots := 0, locals := 128 } : Room) s m args below meth c H locs 0 0 (MQ below (hp_Qi B D s0 (fun r S' => S' = Si ∧ Q r)) args s 0 0 (fun q => B < q)) (F0 m 16 ls []) := by
    intro  H locs ls h hl hR
    unfold wb_X7_isRent_16 at h
    refine hp_iconst E (0 : Int32) (by decide) dX7_isRent_16 (rfl : 16 + 1 = 17) ?_
    exact b17 _ _ _ _ h hl hR
  unfold wp_X7_isRent at h
  refine hp_iload_n E hl 1 rfl 1 rfl dX7_isRent_0 (rfl : 0 + 1 = 1) ?_
  refine hp_if_lt E dX7_isRent_1 (rfl : 1 + 3 = 4) (tgt := 16) (by decide) (fun hb => ?_) (fun hb => ?_)
  · have h := h.1 hb
    exact b16 _ _ _ h (lv_sub hl [] rfl) hR
  · have h := h.2 hb
    refine hp_iload_n E hl 1 rfl 1 rfl dX7_isRent_4 (rfl : 4 + 1 = 5) ?_
    refine hp_aload_n E hl 0 rfl 0 rfl dX7_isRent_5 (rfl : 5 + 1 = 6) ?_
    refine hp_getI E hR in_X7 hc0 rfl 7 (Nat.le_of_ble_eq_true rfl) rfl q1268 (fun _ h => h) dX7_isRent_6 (rfl : 6 + 3 = 9) ?_
    refine hp_icmp_ge E dX7_isRent_9 (rfl : 9 + 3 = 12) (tgt := 16) (by decide) (fun hb => ?_) (fun hb => ?_)
    · have h := h.1 hb
      refine hp_iconst E (1 : Int32) (by decide) dX7_isRent_12 (rfl : 12 + 1 = 13) ?_
      refine hp_goto E (tgt := 17) dX7_isRent_13 (by decide) ?_
      exact b17 _ _ _ _ h (lv_sub hl [] rfl) hR
    · have h := h.2 hb
      exact b16 _ _ _ h (lv_sub hl [] rfl) hR
def wb_X7_partsOf_139 (o : Nat) (a1 : Int32) (a2 : Int32) (a3 : Int32) (v4 : Int32) (v5 : Int32) (S : hp_St) (K33 : Int32 → Int32 → Prop) (Q : Int32 → Prop) : Prop := K33 v4 (v5 + (1 : Int32))
def wb_X7_partsOf_135 (o : Nat) (a1 : Int32) (a2 : Int32) (a3 : Int32) (v5 : Int32) (t0 : Int32) (t1 : Int32) (t2 : Int32) (S : hp_St) (K33 : Int32 → Int32 → Prop) (Q : Int32 → Prop) : Prop := wb_X7_partsOf_139 o a1 a2 a3 (t0 + (t1 - t2)) v5 S K33 Q
def wb_X7_partsOf_105 (o : Nat) (a1 : Int32) (a2 : Int32) (a3 : Int32) (v5 : Int32) (t0 : Int32) (t1 : Int32) (S : hp_St) (K33 : Int32 → Int32 → Prop) (Q : Int32 → Prop) : Prop := (st_C S (st_R S o 15) = 50) ∧ (vp_in (((5 : Int32) * v5) + (1 : Int32)) (st_L S (st_R S o 15))) ∧ ((((st_I S (st_R S o 15) (((5 : Int32) * v5) + (1 : Int32)).toNatClampNeg) = a2) → (vp_in (((5 : Int32) * v5) + (3 : Int32)) (st_L S (st_R S o 15))) ∧ wb_X7_partsOf_135 o a1 a2 a3 v5 t0 t1 (st_I S (st_R S o 15) (((5 : Int32) * v5) + (3 : Int32)).toNatClampNeg) S K33 Q) ∧ ((¬ ((st_I S (st_R S o 15) (((5 : Int32) * v5) + (1 : Int32)).toNatClampNeg) = a2)) → wb_X7_partsOf_135 o a1 a2 a3 v5 t0 t1 (0 : Int32) S K33 Q))
def wb_X7_partsOf_33 (o : Nat) (a1 : Int32) (a2 : Int32) (a3 : Int32) (v4 : Int32) (v5 : Int32) (S : hp_St) (K33 : Int32 → Int32 → Prop) (Q : Int32 → Prop) : Prop := (((v5 < (st_I S o 14)) → (st_C S (st_R S o 15) = 50) ∧ (vp_in ((5 : Int32) * v5) (st_L S (st_R S o 15))) ∧ ((((st_I S (st_R S o 15) ((5 : Int32) * v5).toNatClampNeg) = a1) → (vp_in (((5 : Int32) * v5) + (4 : Int32)) (st_L S (st_R S o 15))) ∧ ((((st_I S (st_R S o 15) (((5 : Int32) * v5) + (4 : Int32)).toNatClampNeg) ≤ a3) → (vp_in (((5 : Int32) * v5) + (2 : Int32)) (st_L S (st_R S o 15))) ∧ ((((st_I S (st_R S o 15) (((5 : Int32) * v5) + (2 : Int32)).toNatClampNeg) = a2) → (vp_in (((5 : Int32) * v5) + (3 : Int32)) (st_L S (st_R S o 15))) ∧ wb_X7_partsOf_105 o a1 a2 a3 v5 v4 (st_I S (st_R S o 15) (((5 : Int32) * v5) + (3 : Int32)).toNatClampNeg) S K33 Q) ∧ ((¬ ((st_I S (st_R S o 15) (((5 : Int32) * v5) + (2 : Int32)).toNatClampNeg) = a2)) → wb_X7_partsOf_105 o a1 a2 a3 v5 v4 (0 : Int32) S K33 Q))) ∧ ((¬ ((st_I S (st_R S o 15) (((5 : Int32) * v5) + (4 : Int32)).toNatClampNeg) ≤ a3)) → wb_X7_partsOf_139 o a1 a2 a3 v4 v5 S K33 Q))) ∧ ((¬ ((st_I S (st_R S o 15) ((5 : Int32) * v5).toNatClampNeg) = a1)) → wb_X7_partsOf_139 o a1 a2 a3 v4 v5 S K33 Q))) ∧ ((¬ (v5 < (st_I S o 14))) → Q v4))
def wl_X7_partsOf_33 (o : Nat) (a1 : Int32) (a2 : Int32) (a3 : Int32) (v4 : Int32) (v5 : Int32) (S : hp_St) (Q : Int32 → Prop) : Prop := ∃ (I : Int32 → Int32 → Prop) (μ : Int32 → Int32 → Nat), I v4 v5 ∧ ∀ (v4 : Int32) (v5 : Int32), I v4 v5 → wb_X7_partsOf_33 o a1 a2 a3 v4 v5 S (fun v4' v5' => I v4' v5' ∧ μ v4' v5' < μ v4 v5) Q
def wb_X7_partsOf_28 (o : Nat) (a1 : Int32) (a2 : Int32) (a3 : Int32) (t0 : Int32) (S : hp_St) (Q : Int32 → Prop) : Prop := wl_X7_partsOf_33 o a1 a2 a3 t0 (0 : Int32) S Q
def wp_X7_partsOf (o : Nat) (a1 : Int32) (a2 : Int32) (a3 : Int32) (S : hp_St) (Q : Int32 → Prop) : Prop := (st_C S (st_R S o 8) = 50) ∧ (vp_in a1 (st_L S (st_R S o 8))) ∧ (((a3 < (st_I S (st_R S o 8) a1.toNatClampNeg)) → Q (0 : Int32)) ∧ ((¬ (a3 < (st_I S (st_R S o 8) a1.toNatClampNeg))) → (st_C S (st_R S o 9) = 50) ∧ (vp_in a1 (st_L S (st_R S o 9))) ∧ (((a2 = (st_I S (st_R S o 9) a1.toNatClampNeg)) → wb_X7_partsOf_28 o a1 a2 a3 (60 : Int32) S Q) ∧ ((¬ (a2 = (st_I S (st_R S o 9) a1.toNatClampNeg))) → wb_X7_partsOf_28 o a1 a2 a3 (0 : Int32) S Q))))
theorem nf_X7_partsOf : hp_nf yX7_partsOf 3 = true := by decide +kernel
set_option maxHeartbeats 4000000 in
theorem m_X7_partsOf {l : Launch} {B : Nat} {D : va_G} {s0 : State} {b0 : Nat} (G : hp_G l B D s0 b0) (o : Nat) (a1 : Int32) (a2 : Int32) (a3 : Int32) (Si : hp_St) (Q : Int32 → Prop) (hc0 : st_C Si o = 7) (h : wp_X7_partsOf o a1 a2 a3 Si Q) : hp_M l B D s0 yX7_partsOf cX7_partsOf 6 (some .int) 2 128 0 0 [hp_v B o, .int a1, .int a2, .int a3] Si (hp_Qi B D s0 (fun r S' => S' = Si ∧ Q r)) := by
  refine hp_start G (by decide +kernel) rfl rfl (lv := [(0, hp_v B o), (1, .int a1), (2, .int a2), (3, .int a3)]) (by simp [lg_sl, hp_vc, hp_ci, hp_cj]) (by simp [lv_args, hp_vc, hp_ci, hp_cj]) ?_
  intro p e s m args below meth c E ls hl hR
  generalize hH : s.heap = H at hR ⊢
  generalize hLo : ([] : List Loc) = locs at hR ⊢
  have b33 : ∀ (v4 : Int32) (v5 : Int32) (H : Heap) (locs : List Loc) (ls : Array Slot), wl_X7_partsOf_33 o a1 a2 a3 v4 v5 Si Q → lv_has ls 6 [(0, hp_v B o), (1, .int a1), (2, .int a2), (3, .int a3), (4, .int v4), (5, .int v5)] → hp_S B D s0 Si H locs → W p l e ({ frames := 2, cells := 0, slots := 0, locals := 128 } : Room) s m args below meth c H locs 0 0 (MQ below (hp_Qi B D s0 (fun r S' => S' = Si ∧ Q r)) args s 0 0 (fun q => B < q)) (F0 m 33 ls []) := by
    intro v4 v5 H locs ls h hl hR
    obtain ⟨I33, μ33, hI, hst⟩ := h
    have key33 : ∀ (N : Nat) (v4 : Int32) (v5 : Int32) (H : Heap) (locs : List Loc) (ls : Array Slot), μ33 v4 v5 < N → I33 v4 v5 → lv_has ls 6 [(0, hp_v B o), (1, .int a1), (2, .int a2), (3, .int a3), (4, .int v4), (5, .int v5)] → hp_S B D s0 Si H locs → W p l e ({ frames := 2, cells := 0, slots := 0, locals := 128 } : Room) s m args below meth c H locs 0 0 (MQ below (hp_Qi B D s0 (fun r S' => S' = Si ∧ Q r)) args s 0 0 (fun q => B < q)) (F0 m 33 ls []) := by
      intro N
      induction N with
      | zero =>
        intro v4 v5 H locs ls hN
        exact absurd hN (Nat.not_lt_zero _)
      | succ N ih33 =>
        intro v4 v5 H locs ls hN hI hl hR
        have h := hst v4 v5 hI
        obtain ⟨K33, hKe33⟩ : ∃ K : Int32 → Int32 → Prop, K = (fun v4' v5' => I33 v4' v5' ∧ μ33 v4' v5' < μ33 v4 v5) := ⟨_, rfl⟩
        rw [← hKe33] at h
        have hK33 : ∀ (v4' : Int32) (v5' : Int32) (H : Heap) (locs : List Loc) (ls : Array Slot), K33 v4' v5' → lv_has ls 6 [(0, hp_v B o), (1, .int a1), (2, .int a2), (3, .int a3), (4, .int (v4')), (5, .int (v5'))] → hp_S B D s0 Si H locs → W p l e ({ frames := 2, cells := 0, slots := 0, locals := 128 } : Room) s m args below meth c H locs 0 0 (MQ below (hp_Qi B D s0 (fun r S' => S' = Si ∧ Q r)) args s 0 0 (fun q => B < q)) (F0 m 33 ls []) := by
          intro v4' v5' H locs ls hI hl hR
          rw [hKe33] at hI
          exact ih33 v4' v5' H locs ls (Nat.lt_of_lt_of_le hI.2 (Nat.le_of_lt_succ hN)) hI.1 hl hR
        have b139 : ∀ (v4 : Int32) (v5 : Int32) (H : Heap) (locs : List Loc) (ls : Array Slot), wb_X7_partsOf_139 o a1 a2 a3 v4 v5 Si K33 Q → lv_has ls 6 [(0, hp_v B o), (1, .int a1), (2, .int a2), (3, .int a3), (4, .int v4), (5, .int v5)] → hp_S B D s0 Si H locs → W p l e ({ frames := 2, cells := 0, slots := 0, locals := 128 } : Room) s m args below meth c H locs 0 0 (MQ below (hp_Qi B D s0 (fun r S' => S' = Si ∧ Q r)) args s 0 0 (fun q => B < q)) (F0 m 139 ls []) := by
          intro v4 v5 H locs ls h hl hR
          unfold wb_X7_partsOf_139 at h
          refine hp_iinc E hl (v5 + (1 : Int32)) 5 (lv' := [(0, hp_v B o), (1, .int a1), (2, .int a2), (3, .int a3), (4, .int v4)]) dX7_partsOf_139 (rfl : 139 + 3 = 142) rfl (by first | rfl | (congr 1)) (by decide) rfl (fun ls hl => ?_)
          refine hp_goto E (tgt := 33) dX7_partsOf_142 (by decide) ?_
          exact hK33 _ _ _ _ _ h (lv_sub hl [1, 2, 3, 4, 5, 0] rfl) hR
        have b135 : ∀ (v5 : Int32) (t0 : Int32) (t1 : Int32) (t2 : Int32) (H : Heap) (locs : List Loc) (ls : Array Slot), wb_X7_partsOf_135 o a1 a2 a3 v5 t0 t1 t2 Si K33 Q → lv_has ls 6 [(0, hp_v B o), (1, .int a1), (2, .int a2), (3, .int a3), (5, .int v5)] → hp_S B D s0 Si H locs → W p l e ({ frames := 2, cells := 0, slots := 0, locals := 128 } : Room) s m args below meth c H locs 0 0 (MQ below (hp_Qi B D s0 (fun r S' => S' = Si ∧ Q r)) args s 0 0 (fun q => B < q)) (F0 m 135 ls [.int t2, .int t1, .int t0]) := by
          intro v5 t0 t1 t2 H locs ls h hl hR
          unfold wb_X7_partsOf_135 at h
          refine hp_isub E dX7_partsOf_135 (rfl : 135 + 1 = 136) ?_
          refine hp_iadd E dX7_partsOf_136 (rfl : 136 + 1 = 137) ?_
          refine hp_istore E hl 4 (lv' := [(0, hp_v B o), (1, .int a1), (2, .int a2), (3, .int a3), (5, .int v5)]) dX7_partsOf_137 (rfl : 137 + 2 = 139) (by decide) rfl (fun ls hl => ?_)
          exact b139 _ _ _ _ _ h (lv_sub hl [1, 2, 3, 4, 0, 5] rfl) hR
        have b105 : ∀ (v5 : Int32) (t0 : Int32) (t1 : Int32) (H : Heap) (locs : List Loc) (ls : Array Slot), wb_X7_partsOf_105 o a1 a2 a3 v5 t0 t1 Si K33 Q → lv_has ls 6 [(0, hp_v B o), (1, .int a1), (2, .int a2), (3, .int a3), (5, .int v5)] → hp_S B D s0 Si H locs → W p l e ({ frames := 2, cells := 0, slots := 0, locals := 128 } : Room) s m args below meth c H locs 0 0 (MQ below (hp_Qi B D s0 (fun r S' => S' = Si ∧ Q r)) args s 0 0 (fun q => B < q)) (F0 m 105 ls [.int t1, .int t0]) := by
          intro v5 t0 t1 H locs ls h hl hR
          unfold wb_X7_partsOf_105 at h
          refine hp_aload_n E hl 0 rfl 0 rfl dX7_partsOf_105 (rfl : 105 + 1 = 106) ?_
          refine hp_getR E hR in_X7 hc0 rfl 15 (Nat.le_of_ble_eq_true rfl) rfl q1276 (fun _ h => h) dX7_partsOf_106 (rfl : 106 + 3 = 109) ?_
          refine hp_iconst E (5 : Int32) (by decide) dX7_partsOf_109 (rfl : 109 + 1 = 110) ?_
          refine hp_iload E hl 4 rfl dX7_partsOf_110 (rfl : 110 + 2 = 112) ?_
          refine hp_imul E dX7_partsOf_112 (rfl : 112 + 1 = 113) ?_
          refine hp_iconst E (1 : Int32) (by decide) dX7_partsOf_113 (rfl : 113 + 1 = 114) ?_
          refine hp_iadd E dX7_partsOf_114 (rfl : 114 + 1 = 115) ?_
          obtain ⟨hc10501, h⟩ := h
          obtain ⟨hi10502, h⟩ := h
          refine hp_iald E hR hc10501 hi10502 dX7_partsOf_115 (rfl : 115 + 1 = 116) ?_
          refine hp_iload_n E hl 2 rfl 2 rfl dX7_partsOf_116 (rfl : 116 + 1 = 117) ?_
          refine hp_icmp_ne E dX7_partsOf_117 (rfl : 117 + 3 = 120) (tgt := 134) (by decide) (fun hb => ?_) (fun hb => ?_)
          · have h := h.1 hb
            refine hp_aload_n E hl 0 rfl 0 rfl dX7_partsOf_120 (rfl : 120 + 1 = 121) ?_
            refine hp_getR E hR in_X7 hc0 rfl 15 (Nat.le_of_ble_eq_true rfl) rfl q1276 (fun _ h => h) dX7_partsOf_121 (rfl : 121 + 3 = 124) ?_
            refine hp_iconst E (5 : Int32) (by decide) dX7_partsOf_124 (rfl : 124 + 1 = 125) ?_
            refine hp_iload E hl 4 rfl dX7_partsOf_125 (rfl : 125 + 2 = 127) ?_
            refine hp_imul E dX7_partsOf_127 (rfl : 127 + 1 = 128) ?_
            refine hp_iconst E (3 : Int32) (by decide) dX7_partsOf_128 (rfl : 128 + 1 = 129) ?_
            refine hp_iadd E dX7_partsOf_129 (rfl : 129 + 1 = 130) ?_
            obtain ⟨hi10503, h⟩ := h
            refine hp_iald E hR hc10501 hi10503 dX7_partsOf_130 (rfl : 130 + 1 = 131) ?_
            refine hp_goto E (tgt := 135) dX7_partsOf_131 (by decide) ?_
            exact b135 _ _ _ _ _ _ _ h hl hR
          · have h := h.2 hb
            refine hp_iconst E (0 : Int32) (by decide) dX7_partsOf_134 (rfl : 134 + 1 = 135) ?_
            exact b135 _ _ _ _ _ _ _ h hl hR
        unfold wb_X7_partsOf_33 at h
        refine hp_iload E hl 5 rfl dX7_partsOf_33 (rfl : 33 + 2 = 35) ?_
        refine hp_aload_n E hl 0 rfl 0 rfl dX7_partsOf_35 (rfl : 35 + 1 = 36) ?_
        refine hp_getI E hR in_X7 hc0 rfl 14 (Nat.le_of_ble_eq_true rfl) rfl q1275 (fun _ h => h) dX7_partsOf_36 (rfl : 36 + 3 = 39) ?_
        refine hp_icmp_ge E dX7_partsOf_39 (rfl : 39 + 3 = 42) (tgt := 145) (by decide) (fun hb => ?_) (fun hb => ?_)
        · have h := h.1 hb
          refine hp_aload_n E hl 0 rfl 0 rfl dX7_partsOf_42 (rfl : 42 + 1 = 43) ?_
          refine hp_getR E hR in_X7 hc0 rfl 15 (Nat.le_of_ble_eq_true rfl) rfl q1276 (fun _ h => h) dX7_partsOf_43 (rfl : 43 + 3 = 46) ?_
          refine hp_iconst E (5 : Int32) (by decide) dX7_partsOf_46 (rfl : 46 + 1 = 47) ?_
          refine hp_iload E hl 5 rfl dX7_partsOf_47 (rfl : 47 + 2 = 49) ?_
          refine hp_imul E dX7_partsOf_49 (rfl : 49 + 1 = 50) ?_
          obtain ⟨hc3301, h⟩ := h
          obtain ⟨hi3302, h⟩ := h
          refine hp_iald E hR hc3301 hi3302 dX7_partsOf_50 (rfl : 50 + 1 = 51) ?_
          refine hp_iload_n E hl 1 rfl 1 rfl dX7_partsOf_51 (rfl : 51 + 1 = 52) ?_
          refine hp_icmp_ne E dX7_partsOf_52 (rfl : 52 + 3 = 55) (tgt := 139) (by decide) (fun hb => ?_) (fun hb => ?_)
          · have h := h.1 hb
            refine hp_aload_n E hl 0 rfl 0 rfl dX7_partsOf_55 (rfl : 55 + 1 = 56) ?_
            refine hp_getR E hR in_X7 hc0 rfl 15 (Nat.le_of_ble_eq_true rfl) rfl q1276 (fun _ h => h) dX7_partsOf_56 (rfl : 56 + 3 = 59) ?_
            refine hp_iconst E (5 : Int32) (by decide) dX7_partsOf_59 (rfl : 59 + 1 = 60) ?_
            refine hp_iload E hl 5 rfl dX7_partsOf_60 (rfl : 60 + 2 = 62) ?_
            refine hp_imul E dX7_partsOf_62 (rfl : 62 + 1 = 63) ?_
            refine hp_iconst E (4 : Int32) (by decide) dX7_partsOf_63 (rfl : 63 + 1 = 64) ?_
            refine hp_iadd E dX7_partsOf_64 (rfl : 64 + 1 = 65) ?_
            obtain ⟨hi3303, h⟩ := h
            refine hp_iald E hR hc3301 hi3303 dX7_partsOf_65 (rfl : 65 + 1 = 66) ?_
            refine hp_iload_n E hl 3 rfl 3 rfl dX7_partsOf_66 (rfl : 66 + 1 = 67) ?_
            refine hp_icmp_le E dX7_partsOf_67 (rfl : 67 + 3 = 70) (tgt := 73) (by decide) (fun hb => ?_) (fun hb => ?_)
            · have h := h.1 hb
              refine hp_iload E hl 4 rfl dX7_partsOf_73 (rfl : 73 + 2 = 75) ?_
              refine hp_aload_n E hl 0 rfl 0 rfl dX7_partsOf_75 (rfl : 75 + 1 = 76) ?_
              refine hp_getR E hR in_X7 hc0 rfl 15 (Nat.le_of_ble_eq_true rfl) rfl q1276 (fun _ h => h) dX7_partsOf_76 (rfl : 76 + 3 = 79) ?_
              refine hp_iconst E (5 : Int32) (by decide) dX7_partsOf_79 (rfl : 79 + 1 = 80) ?_
              refine hp_iload E hl 5 rfl dX7_partsOf_80 (rfl : 80 + 2 = 82) ?_
              refine hp_imul E dX7_partsOf_82 (rfl : 82 + 1 = 83) ?_
              refine hp_iconst E (2 : Int32) (by decide) dX7_partsOf_83 (rfl : 83 + 1 = 84) ?_
              refine hp_iadd E dX7_partsOf_84 (rfl : 84 + 1 = 85) ?_
              obtain ⟨hi3304, h⟩ := h
              refine hp_iald E hR hc3301 hi3304 dX7_partsOf_85 (rfl : 85 + 1 = 86) ?_
              refine hp_iload_n E hl 2 rfl 2 rfl dX7_partsOf_86 (rfl : 86 + 1 = 87) ?_
              refine hp_icmp_ne E dX7_partsOf_87 (rfl : 87 + 3 = 90) (tgt := 104) (by decide) (fun hb => ?_) (fun hb => ?_)
              · have h := h.1 hb
                refine hp_aload_n E hl 0 rfl 0 rfl dX7_partsOf_90 (rfl : 90 + 1 = 91) ?_
                refine hp_getR E hR in_X7 hc0 rfl 15 (Nat.le_of_ble_eq_true rfl) rfl q1276 (fun _ h => h) dX7_partsOf_91 (rfl : 91 + 3 = 94) ?_
                refine hp_iconst E (5 : Int32) (by decide) dX7_partsOf_94 (rfl : 94 + 1 = 95) ?_
                refine hp_iload E hl 5 rfl dX7_partsOf_95 (rfl : 95 + 2 = 97) ?_
                refine hp_imul E dX7_partsOf_97 (rfl : 97 + 1 = 98) ?_
                refine hp_iconst E (3 : Int32) (by decide) dX7_partsOf_98 (rfl : 98 + 1 = 99) ?_
                refine hp_iadd E dX7_partsOf_99 (rfl : 99 + 1 = 100) ?_
                obtain ⟨hi3305, h⟩ := h
                refine hp_iald E hR hc3301 hi3305 dX7_partsOf_100 (rfl : 100 + 1 = 101) ?_
                refine hp_goto E (tgt := 105) dX7_partsOf_101 (by decide) ?_
                exact b105 _ _ _ _ _ _ h (lv_sub hl [0, 1, 2, 3, 5] rfl) hR
              · have h := h.2 hb
                refine hp_iconst E (0 : Int32) (by decide) dX7_partsOf_104 (rfl : 104 + 1 = 105) ?_
                exact b105 _ _ _ _ _ _ h (lv_sub hl [0, 1, 2, 3, 5] rfl) hR
            · have h := h.2 hb
              refine hp_goto E (tgt := 139) dX7_partsOf_70 (by decide) ?_
              exact b139 _ _ _ _ _ h hl hR
          · have h := h.2 hb
            exact b139 _ _ _ _ _ h hl hR
        · have h := h.2 hb
          refine hp_iload E hl 4 rfl dX7_partsOf_145 (rfl : 145 + 2 = 147) ?_
          exact hp_iret E hR ⟨rfl, h⟩ (Nat.le_of_ble_eq_true rfl) (Nat.le_of_ble_eq_true rfl) dX7_partsOf_147
    exact key33 (μ33 v4 v5 + 1) v4 v5 H locs ls (Nat.lt_succ_self _) hI hl hR
  have b28 : ∀ (t0 : Int32) (H : Heap) (locs : List Loc) (ls : Array Slot), wb_X7_partsOf_28 o a1 a2 a3 t0 Si Q → lv_has ls 6 [(0, hp_v B o), (1, .int a1), (2, .int a2), (3, .int a3)] → hp_S B D s0 Si H locs → W p l e ({ frames := 2, cells := 0, slots := 0, locals := 128 } : Room) s m args below meth c H locs 0 0 (MQ below (hp_Qi B D s0 (fun r S' => S' = Si ∧ Q r)) args s 0 0 (fun q => B < q)) (F0 m 28 ls [.int t0]) := by
    intro t0 H locs ls h hl hR
    unfold wb_X7_partsOf_28 at h
    refine hp_istore E hl 4 (lv' := [(0, hp_v B o), (1, .int a1), (2, .int a2), (3, .int a3)]) dX7_partsOf_28 (rfl : 28 + 2 = 30) (by decide) rfl (fun ls hl => ?_)
    refine hp_iconst E (0 : Int32) (by decide) dX7_partsOf_30 (rfl : 30 + 1 = 31) ?_
    refine hp_istore E hl 5 (lv' := [(4, .int t0), (0, hp_v B o), (1, .int a1), (2, .int a2), (3, .int a3)]) dX7_partsOf_31 (rfl : 31 + 2 = 33) (by decide) rfl (fun ls hl => ?_)
    exact b33 _ _ _ _ _ h (lv_sub hl [2, 3, 4, 5, 1, 0] rfl) hR
  unfold wp_X7_partsOf at h
  refine hp_iload_n E hl 3 rfl 3 rfl dX7_partsOf_0 (rfl : 0 + 1 = 1) ?_
  refine hp_aload_n E hl 0 rfl 0 rfl dX7_partsOf_1 (rfl : 1 + 1 = 2) ?_
  refine hp_getR E hR in_X7 hc0 rfl 8 (Nat.le_of_ble_eq_true rfl) rfl q1269 (fun _ h => h) dX7_partsOf_2 (rfl : 2 + 3 = 5) ?_
  refine hp_iload_n E hl 1 rfl 1 rfl dX7_partsOf_5 (rfl : 5 + 1 = 6) ?_
  obtain ⟨hc1, h⟩ := h
  obtain ⟨hi2, h⟩ := h
  refine hp_iald E hR hc1 hi2 dX7_partsOf_6 (rfl : 6 + 1 = 7) ?_
  refine hp_icmp_ge E dX7_partsOf_7 (rfl : 7 + 3 = 10) (tgt := 12) (by decide) (fun hb => ?_) (fun hb => ?_)
  · have h := h.1 hb
    refine hp_iconst E (0 : Int32) (by decide) dX7_partsOf_10 (rfl : 10 + 1 = 11) ?_
    exact hp_iret E hR ⟨rfl, h⟩ (Nat.le_of_ble_eq_true rfl) (Nat.le_of_ble_eq_true rfl) dX7_partsOf_11
  · have h := h.2 hb
    refine hp_iload_n E hl 2 rfl 2 rfl dX7_partsOf_12 (rfl : 12 + 1 = 13) ?_
    refine hp_aload_n E hl 0 rfl 0 rfl dX7_partsOf_13 (rfl : 13 + 1 = 14) ?_
    refine hp_getR E hR in_X7 hc0 rfl 9 (Nat.le_of_ble_eq_true rfl) rfl q1270 (fun _ h => h) dX7_partsOf_14 (rfl : 14 + 3 = 17) ?_
    refine hp_iload_n E hl 1 rfl 1 rfl dX7_partsOf_17 (rfl : 17 + 1 = 18) ?_
    obtain ⟨hc3, h⟩ := h
    obtain ⟨hi4, h⟩ := h
    refine hp_iald E hR hc3 hi4 dX7_partsOf_18 (rfl : 18 + 1 = 19) ?_
    refine hp_icmp_ne E dX7_partsOf_19 (rfl : 19 + 3 = 22) (tgt := 27) (by decide) (fun hb => ?_) (fun hb => ?_)
    · have h := h.1 hb
      refine hp_bipush E (60 : Int32) (by decide) dX7_partsOf_22 (rfl : 22 + 2 = 24) ?_
      refine hp_goto E (tgt := 28) dX7_partsOf_24 (by decide) ?_
      exact b28 _ _ _ _ h hl hR
    · have h := h.2 hb
      refine hp_iconst E (0 : Int32) (by decide) dX7_partsOf_27 (rfl : 27 + 1 = 28) ?_
      exact b28 _ _ _ _ h hl hR
def wb_X7_sell_62 (o : Nat) (a1 : Int32) (a2 : Int32) (a3 : Int32) (a4 : Int32) (S : hp_St) (Q : Int32 → hp_St → Prop) : Prop := Q (0 : Int32) S
def wp_X7_sell (o : Nat) (a1 : Int32) (a2 : Int32) (a3 : Int32) (a4 : Int32) (S : hp_St) (Q : Int32 → hp_St → Prop) : Prop := (∀ S1, S1 = st_pI S o 2 (0 : Int32) → wp_X7_isRent o a1 S1 (fun z4 => (((z4 = 0) → wb_X7_sell_62 o a1 a2 a3 a4 S1 Q) ∧ ((¬ (z4 = 0)) → wp_X7_isHolder a2 S1 (fun z5 => (((z5 = 0) → wb_X7_sell_62 o a1 a2 a3 a4 S1 Q) ∧ ((¬ (z5 = 0)) → wp_X7_isHolder a3 S1 (fun z6 => (((z6 = 0) → wb_X7_sell_62 o a1 a2 a3 a4 S1 Q) ∧ ((¬ (z6 = 0)) → (((a2 = a3) → wb_X7_sell_62 o a1 a2 a3 a4 S1 Q) ∧ ((¬ (a2 = a3)) → (((a4 < (1 : Int32)) → wb_X7_sell_62 o a1 a2 a3 a4 S1 Q) ∧ ((¬ (a4 < (1 : Int32))) → wp_X7_partsOf o a1 a2 (st_I S1 o 3) S1 (fun z7 => (((a4 ≤ z7) → ((((st_I S1 o 14) = (40 : Int32)) → wb_X7_sell_62 o a1 a2 a3 a4 S1 Q) ∧ ((¬ ((st_I S1 o 14) = (40 : Int32))) → (st_C S1 (st_R S1 o 15) = 50) ∧ (vp_in ((5 : Int32) * (st_I S1 o 14)) (st_L S1 (st_R S1 o 15))) ∧ (∀ S10, S10 = st_pI S1 (st_R S1 o 15) ((5 : Int32) * (st_I S1 o 14)).toNatClampNeg a1 → (st_C S10 (st_R S10 o 15) = 50) ∧ (vp_in (((5 : Int32) * (st_I S10 o 14)) + (1 : Int32)) (st_L S10 (st_R S10 o 15))) ∧ (∀ S15, S15 = st_pI S10 (st_R S10 o 15) (((5 : Int32) * (st_I S10 o 14)) + (1 : Int32)).toNatClampNeg a2 → (st_C S15 (st_R S15 o 15) = 50) ∧ (vp_in (((5 : Int32) * (st_I S15 o 14)) + (2 : Int32)) (st_L S15 (st_R S15 o 15))) ∧ (∀ S20, S20 = st_pI S15 (st_R S15 o 15) (((5 : Int32) * (st_I S15 o 14)) + (2 : Int32)).toNatClampNeg a3 → (st_C S20 (st_R S20 o 15) = 50) ∧ (vp_in (((5 : Int32) * (st_I S20 o 14)) + (3 : Int32)) (st_L S20 (st_R S20 o 15))) ∧ (∀ S25, S25 = st_pI S20 (st_R S20 o 15) (((5 : Int32) * (st_I S20 o 14)) + (3 : Int32)).toNatClampNeg a4 → (st_C S25 (st_R S25 o 15) = 50) ∧ (vp_in (((5 : Int32) * (st_I S25 o 14)) + (4 : Int32)) (st_L S25 (st_R S25 o 15))) ∧ (∀ S30, S30 = st_pI S25 (st_R S25 o 15) (((5 : Int32) * (st_I S25 o 14)) + (4 : Int32)).toNatClampNeg (st_I S25 o 3) → (∀ S33, S33 = st_pI S30 o 14 ((st_I S30 o 14) + (1 : Int32)) → Q (1 : Int32) S33))))))))) ∧ ((¬ (a4 ≤ z7)) → wb_X7_sell_62 o a1 a2 a3 a4 S1 Q)))))))))))))))))
theorem nf_X7_sell : hp_nf yX7_sell 4 = true := by decide +kernel
set_option maxHeartbeats 4000000 in
theorem m_X7_sell {l : Launch} {B : Nat} {D : va_G} {s0 : State} {b0 : Nat} (G : hp_G l B D s0 b0) (o : Nat) (a1 : Int32) (a2 : Int32) (a3 : Int32) (a4 : Int32) (Si : hp_St) (Q : Int32 → hp_St → Prop) (hc0 : st_C Si o = 7) (h : wp_X7_sell o a1 a2 a3 a4 Si Q) : hp_M l B D s0 yX7_sell cX7_sell 5 (some .boolean) 3 192 0 0 [hp_v B o, .int a1, .int a2, .int a3, .int a4] Si (hp_Qi B D s0 (fun r S' => hp_mono Si S' ∧ Q r S')) := by
  refine hp_start G (by decide +kernel) rfl rfl (lv := [(0, hp_v B o), (1, .int a1), (2, .int a2), (3, .int a3), (4, .int a4)]) (by simp [lg_sl, hp_vc, hp_ci, hp_cj]) (by simp [lv_args, hp_vc, hp_ci, hp_cj]) ?_
  intro p e s m args below meth c E ls hl hR
  have hm : hp_mono Si Si := hp_mono.rf
  generalize hH : s.heap = H at hR ⊢
  generalize hLo : ([] : List Loc) = locs at hR ⊢
  have b62 : ∀ (S : hp_St) (H : Heap) (locs : List Loc) (ls : Array Slot), wb_X7_sell_62 o a1 a2 a3 a4 S Q → lv_has ls 5 [] → hp_S B D s0 S H locs → hp_mono Si S → W p l e ({ frames := 3, cells := 0, slots := 0, locals := 192 } : Room) s m args below meth c H locs 0 0 (MQ below (hp_Qi B D s0 (fun r S' => hp_mono Si S' ∧ Q r S')) args s 0 0 (fun q => B < q)) (F0 m 62 ls []) := by
    intro S H locs ls h hl hR hm
    unfold wb_X7_sell_62 at h
    refine hp_iconst E (0 : Int32) (by decide) dX7_sell_62 (rfl : 62 + 1 = 63) ?_
    exact hp_zret E hR (Or.inl rfl) ⟨hm, h⟩ (Nat.le_of_ble_eq_true rfl) (Nat.le_of_ble_eq_true rfl) dX7_sell_63
  unfold wp_X7_sell at h
  refine hp_aload_n E hl 0 rfl 0 rfl dX7_sell_0 (rfl : 0 + 1 = 1) ?_
  refine hp_iconst E (0 : Int32) (by decide) dX7_sell_1 (rfl : 1 + 1 = 2) ?_
  refine hx_putI E hR in_X7 tyX7 tyX7_ok nmX7 hc0 rfl 2 (Nat.le_of_ble_eq_true rfl) rfl q1263 (fun _ h => h) (Or.inl rfl) (Or.inl rfl) dX7_sell_2 (rfl : 2 + 3 = 5) (fun S1 H locs e3 hm2 hR => ?_)
  have h := h S1 e3
  have hm := hp_mono.tr hm hm2
  refine hp_aload_n E hl 0 rfl 0 rfl dX7_sell_5 (rfl : 5 + 1 = 6) ?_
  refine hp_iload_n E hl 1 rfl 1 rfl dX7_sell_6 (rfl : 6 + 1 = 7) ?_
  refine hp_fi (hp_rV E hR hl (m_X7_isRent G _ _ _ _ (hp_mono.c hm hc0) h) (hp_mono.c hm hc0) (ci := 6) rfl rfl q1550 q1552 qs50 q82 q1553 nf_X7_isRent ⟨Nat.le_of_ble_eq_true rfl, Nat.le_of_ble_eq_true rfl⟩ (rest := []) rfl (Nat.le_of_ble_eq_true rfl) dX7_sell_7 ⟨Nat.le_of_ble_eq_true rfl, Nat.le_of_ble_eq_true rfl⟩) hR (rfl : 7 + 3 = 10) (fun z4 Sx H locs hq hR => ?_)
  obtain ⟨hSx, h⟩ := hq
  rw [hSx] at hR
  refine hp_if_eq E dX7_sell_10 (rfl : 10 + 3 = 13) (tgt := 62) (by decide) (fun hb => ?_) (fun hb => ?_)
  · have h := h.1 hb
    exact b62 _ _ _ _ h (lv_sub hl [] rfl) hR hm
  · have h := h.2 hb
    refine hp_iload_n E hl 2 rfl 2 rfl dX7_sell_13 (rfl : 13 + 1 = 14) ?_
    refine hp_fi (hp_rS E hR hl (m_X7_isHolder G _ _ _ h) q1543 q1544 q82 q1545 nf_X7_isHolder ⟨Nat.le_of_ble_eq_true rfl, Nat.le_of_ble_eq_true rfl⟩ (rest := []) rfl (Nat.le_of_ble_eq_true rfl) dX7_sell_14 ⟨Nat.le_of_ble_eq_true rfl, Nat.le_of_ble_eq_true rfl⟩) hR (rfl : 14 + 3 = 17) (fun z5 Sx H locs hq hR => ?_)
    obtain ⟨hSx, h⟩ := hq
    rw [hSx] at hR
    refine hp_if_eq E dX7_sell_17 (rfl : 17 + 3 = 20) (tgt := 62) (by decide) (fun hb => ?_) (fun hb => ?_)
    · have h := h.1 hb
      exact b62 _ _ _ _ h (lv_sub hl [] rfl) hR hm
    · have h := h.2 hb
      refine hp_iload_n E hl 3 rfl 3 rfl dX7_sell_20 (rfl : 20 + 1 = 21) ?_
      refine hp_fi (hp_rS E hR hl (m_X7_isHolder G _ _ _ h) q1543 q1544 q82 q1545 nf_X7_isHolder ⟨Nat.le_of_ble_eq_true rfl, Nat.le_of_ble_eq_true rfl⟩ (rest := []) rfl (Nat.le_of_ble_eq_true rfl) dX7_sell_21 ⟨Nat.le_of_ble_eq_true rfl, Nat.le_of_ble_eq_true rfl⟩) hR (rfl : 21 + 3 = 24) (fun z6 Sx H locs hq hR => ?_)
      obtain ⟨hSx, h⟩ := hq
      rw [hSx] at hR
      refine hp_if_eq E dX7_sell_24 (rfl : 24 + 3 = 27) (tgt := 62) (by decide) (fun hb => ?_) (fun hb => ?_)
      · have h := h.1 hb
        exact b62 _ _ _ _ h (lv_sub hl [] rfl) hR hm
      · have h := h.2 hb
        refine hp_iload_n E hl 2 rfl 2 rfl dX7_sell_27 (rfl : 27 + 1 = 28) ?_
        refine hp_iload_n E hl 3 rfl 3 rfl dX7_sell_28 (rfl : 28 + 1 = 29) ?_
        refine hp_icmp_eq E dX7_sell_29 (rfl : 29 + 3 = 32) (tgt := 62) (by decide) (fun hb => ?_) (fun hb => ?_)
        · have h := h.1 hb
          exact b62 _ _ _ _ h (lv_sub hl [] rfl) hR hm
        · have h := h.2 hb
          refine hp_iload E hl 4 rfl dX7_sell_32 (rfl : 32 + 2 = 34) ?_
          refine hp_iconst E (1 : Int32) (by decide) dX7_sell_34 (rfl : 34 + 1 = 35) ?_
          refine hp_icmp_lt E dX7_sell_35 (rfl : 35 + 3 = 38) (tgt := 62) (by decide) (fun hb => ?_) (fun hb => ?_)
          · have h := h.1 hb
            exact b62 _ _ _ _ h (lv_sub hl [] rfl) hR hm
          · have h := h.2 hb
            refine hp_iload E hl 4 rfl dX7_sell_38 (rfl : 38 + 2 = 40) ?_
            refine hp_aload_n E hl 0 rfl 0 rfl dX7_sell_40 (rfl : 40 + 1 = 41) ?_
            refine hp_iload_n E hl 1 rfl 1 rfl dX7_sell_41 (rfl : 41 + 1 = 42) ?_
            refine hp_iload_n E hl 2 rfl 2 rfl dX7_sell_42 (rfl : 42 + 1 = 43) ?_
            refine hp_aload_n E hl 0 rfl 0 rfl dX7_sell_43 (rfl : 43 + 1 = 44) ?_
            refine hp_getI E hR in_X7 (hp_mono.c hm hc0) rfl 3 (Nat.le_of_ble_eq_true rfl) rfl q1264 (fun _ h => h) dX7_sell_44 (rfl : 44 + 3 = 47) ?_
            refine hp_fi (hp_rV E hR hl (m_X7_partsOf G _ _ _ _ _ _ (hp_mono.c hm hc0) h) (hp_mono.c hm hc0) (ci := 6) rfl rfl q1554 q1556 qs51 q82 q1557 nf_X7_partsOf ⟨Nat.le_of_ble_eq_true rfl, Nat.le_of_ble_eq_true rfl⟩ (rest := [.int a4]) rfl (Nat.le_of_ble_eq_true rfl) dX7_sell_47 ⟨Nat.le_of_ble_eq_true rfl, Nat.le_of_ble_eq_true rfl⟩) hR (rfl : 47 + 3 = 50) (fun z7 Sx H locs hq hR => ?_)
            obtain ⟨hSx, h⟩ := hq
            rw [hSx] at hR
            refine hp_icmp_gt E dX7_sell_50 (rfl : 50 + 3 = 53) (tgt := 62) (by decide) (fun hb => ?_) (fun hb => ?_)
            · have h := h.1 hb
              refine hp_aload_n E hl 0 rfl 0 rfl dX7_sell_53 (rfl : 53 + 1 = 54) ?_
              refine hp_getI E hR in_X7 (hp_mono.c hm hc0) rfl 14 (Nat.le_of_ble_eq_true rfl) rfl q1275 (fun _ h => h) dX7_sell_54 (rfl : 54 + 3 = 57) ?_
              refine hp_bipush E (40 : Int32) (by decide) dX7_sell_57 (rfl : 57 + 2 = 59) ?_
              refine hp_icmp_ne E dX7_sell_59 (rfl : 59 + 3 = 62) (tgt := 64) (by decide) (fun hb => ?_) (fun hb => ?_)
              · have h := h.1 hb
                exact b62 _ _ _ _ h (lv_sub hl [] rfl) hR hm
              · have h := h.2 hb
                refine hp_aload_n E hl 0 rfl 0 rfl dX7_sell_64 (rfl : 64 + 1 = 65) ?_
                refine hp_getR E hR in_X7 (hp_mono.c hm hc0) rfl 15 (Nat.le_of_ble_eq_true rfl) rfl q1276 (fun _ h => h) dX7_sell_65 (rfl : 65 + 3 = 68) ?_
                refine hp_iconst E (5 : Int32) (by decide) dX7_sell_68 (rfl : 68 + 1 = 69) ?_
                refine hp_aload_n E hl 0 rfl 0 rfl dX7_sell_69 (rfl : 69 + 1 = 70) ?_
                refine hp_getI E hR in_X7 (hp_mono.c hm hc0) rfl 14 (Nat.le_of_ble_eq_true rfl) rfl q1275 (fun _ h => h) dX7_sell_70 (rfl : 70 + 3 = 73) ?_
                refine hp_imul E dX7_sell_73 (rfl : 73 + 1 = 74) ?_
                refine hp_iload_n E hl 1 rfl 1 rfl dX7_sell_74 (rfl : 74 + 1 = 75) ?_
                obtain ⟨hc8, h⟩ := h
                obtain ⟨hi9, h⟩ := h
                refine hx_iast E hR hc8 hi9 dX7_sell_75 (rfl : 75 + 1 = 76) (fun S10 H locs e12 hm11 hR => ?_)
                have h := h S10 e12
                have hm := hp_mono.tr hm hm11
                refine hp_aload_n E hl 0 rfl 0 rfl dX7_sell_76 (rfl : 76 + 1 = 77) ?_
                refine hp_getR E hR in_X7 (hp_mono.c hm hc0) rfl 15 (Nat.le_of_ble_eq_true rfl) rfl q1276 (fun _ h => h) dX7_sell_77 (rfl : 77 + 3 = 80) ?_
                refine hp_iconst E (5 : Int32) (by decide) dX7_sell_80 (rfl : 80 + 1 = 81) ?_
                refine hp_aload_n E hl 0 rfl 0 rfl dX7_sell_81 (rfl : 81 + 1 = 82) ?_
                refine hp_getI E hR in_X7 (hp_mono.c hm hc0) rfl 14 (Nat.le_of_ble_eq_true rfl) rfl q1275 (fun _ h => h) dX7_sell_82 (rfl : 82 + 3 = 85) ?_
                refine hp_imul E dX7_sell_85 (rfl : 85 + 1 = 86) ?_
                refine hp_iconst E (1 : Int32) (by decide) dX7_sell_86 (rfl : 86 + 1 = 87) ?_
                refine hp_iadd E dX7_sell_87 (rfl : 87 + 1 = 88) ?_
                refine hp_iload_n E hl 2 rfl 2 rfl dX7_sell_88 (rfl : 88 + 1 = 89) ?_
                obtain ⟨hc13, h⟩ := h
                obtain ⟨hi14, h⟩ := h
                refine hx_iast E hR hc13 hi14 dX7_sell_89 (rfl : 89 + 1 = 90) (fun S15 H locs e17 hm16 hR => ?_)
                have h := h S15 e17
                have hm := hp_mono.tr hm hm16
                refine hp_aload_n E hl 0 rfl 0 rfl dX7_sell_90 (rfl : 90 + 1 = 91) ?_
                refine hp_getR E hR in_X7 (hp_mono.c hm hc0) rfl 15 (Nat.le_of_ble_eq_true rfl) rfl q1276 (fun _ h => h) dX7_sell_91 (rfl : 91 + 3 = 94) ?_
                refine hp_iconst E (5 : Int32) (by decide) dX7_sell_94 (rfl : 94 + 1 = 95) ?_
                refine hp_aload_n E hl 0 rfl 0 rfl dX7_sell_95 (rfl : 95 + 1 = 96) ?_
                refine hp_getI E hR in_X7 (hp_mono.c hm hc0) rfl 14 (Nat.le_of_ble_eq_true rfl) rfl q1275 (fun _ h => h) dX7_sell_96 (rfl : 96 + 3 = 99) ?_
                refine hp_imul E dX7_sell_99 (rfl : 99 + 1 = 100) ?_
                refine hp_iconst E (2 : Int32) (by decide) dX7_sell_100 (rfl : 100 + 1 = 101) ?_
                refine hp_iadd E dX7_sell_101 (rfl : 101 + 1 = 102) ?_
                refine hp_iload_n E hl 3 rfl 3 rfl dX7_sell_102 (rfl : 102 + 1 = 103) ?_
                obtain ⟨hc18, h⟩ := h
                obtain ⟨hi19, h⟩ := h
                refine hx_iast E hR hc18 hi19 dX7_sell_103 (rfl : 103 + 1 = 104) (fun S20 H locs e22 hm21 hR => ?_)
                have h := h S20 e22
                have hm := hp_mono.tr hm hm21
                refine hp_aload_n E hl 0 rfl 0 rfl dX7_sell_104 (rfl : 104 + 1 = 105) ?_
                refine hp_getR E hR in_X7 (hp_mono.c hm hc0) rfl 15 (Nat.le_of_ble_eq_true rfl) rfl q1276 (fun _ h => h) dX7_sell_105 (rfl : 105 + 3 = 108) ?_
                refine hp_iconst E (5 : Int32) (by decide) dX7_sell_108 (rfl : 108 + 1 = 109) ?_
                refine hp_aload_n E hl 0 rfl 0 rfl dX7_sell_109 (rfl : 109 + 1 = 110) ?_
                refine hp_getI E hR in_X7 (hp_mono.c hm hc0) rfl 14 (Nat.le_of_ble_eq_true rfl) rfl q1275 (fun _ h => h) dX7_sell_110 (rfl : 110 + 3 = 113) ?_
                refine hp_imul E dX7_sell_113 (rfl : 113 + 1 = 114) ?_
                refine hp_iconst E (3 : Int32) (by decide) dX7_sell_114 (rfl : 114 + 1 = 115) ?_
                refine hp_iadd E dX7_sell_115 (rfl : 115 + 1 = 116) ?_
                refine hp_iload E hl 4 rfl dX7_sell_116 (rfl : 116 + 2 = 118) ?_
                obtain ⟨hc23, h⟩ := h
                obtain ⟨hi24, h⟩ := h
                refine hx_iast E hR hc23 hi24 dX7_sell_118 (rfl : 118 + 1 = 119) (fun S25 H locs e27 hm26 hR => ?_)
                have h := h S25 e27
                have hm := hp_mono.tr hm hm26
                refine hp_aload_n E hl 0 rfl 0 rfl dX7_sell_119 (rfl : 119 + 1 = 120) ?_
                refine hp_getR E hR in_X7 (hp_mono.c hm hc0) rfl 15 (Nat.le_of_ble_eq_true rfl) rfl q1276 (fun _ h => h) dX7_sell_120 (rfl : 120 + 3 = 123) ?_
                refine hp_iconst E (5 : Int32) (by decide) dX7_sell_123 (rfl : 123 + 1 = 124) ?_
                refine hp_aload_n E hl 0 rfl 0 rfl dX7_sell_124 (rfl : 124 + 1 = 125) ?_
                refine hp_getI E hR in_X7 (hp_mono.c hm hc0) rfl 14 (Nat.le_of_ble_eq_true rfl) rfl q1275 (fun _ h => h) dX7_sell_125 (rfl : 125 + 3 = 128) ?_
                refine hp_imul E dX7_sell_128 (rfl : 128 + 1 = 129) ?_
                refine hp_iconst E (4 : Int32) (by decide) dX7_sell_129 (rfl : 129 + 1 = 130) ?_
                refine hp_iadd E dX7_sell_130 (rfl : 130 + 1 = 131) ?_
                refine hp_aload_n E hl 0 rfl 0 rfl dX7_sell_131 (rfl : 131 + 1 = 132) ?_
                refine hp_getI E hR in_X7 (hp_mono.c hm hc0) rfl 3 (Nat.le_of_ble_eq_true rfl) rfl q1264 (fun _ h => h) dX7_sell_132 (rfl : 132 + 3 = 135) ?_
                obtain ⟨hc28, h⟩ := h
                obtain ⟨hi29, h⟩ := h
                refine hx_iast E hR hc28 hi29 dX7_sell_135 (rfl : 135 + 1 = 136) (fun S30 H locs e32 hm31 hR => ?_)
                have h := h S30 e32
                have hm := hp_mono.tr hm hm31
                refine hp_aload_n E hl 0 rfl 0 rfl dX7_sell_136 (rfl : 136 + 1 = 137) ?_
                refine hp_dup E hp_vc dX7_sell_137 (rfl : 137 + 1 = 138) ?_
                refine hp_getI E hR in_X7 (hp_mono.c hm hc0) rfl 14 (Nat.le_of_ble_eq_true rfl) rfl q1275 (fun _ h => h) dX7_sell_138 (rfl : 138 + 3 = 141) ?_
                refine hp_iconst E (1 : Int32) (by decide) dX7_sell_141 (rfl : 141 + 1 = 142) ?_
                refine hp_iadd E dX7_sell_142 (rfl : 142 + 1 = 143) ?_
                refine hx_putI E hR in_X7 tyX7 tyX7_ok nmX7 (hp_mono.c hm hc0) rfl 14 (Nat.le_of_ble_eq_true rfl) rfl q1275 (fun _ h => h) (Or.inl rfl) (Or.inl rfl) dX7_sell_143 (rfl : 143 + 3 = 146) (fun S33 H locs e35 hm34 hR => ?_)
                have h := h S33 e35
                have hm := hp_mono.tr hm hm34
                refine hp_iconst E (1 : Int32) (by decide) dX7_sell_146 (rfl : 146 + 1 = 147) ?_
                exact hp_zret E hR (Or.inr rfl) ⟨hm, h⟩ (Nat.le_of_ble_eq_true rfl) (Nat.le_of_ble_eq_true rfl) dX7_sell_147
            · have h := h.2 hb
              exact b62 _ _ _ _ h (lv_sub hl [] rfl) hR hm
def wb_X7_isHalf_15 (a0 : Int32) (t0 : Int32) (S : hp_St) (Q : Int32 → Prop) : Prop := (t0 = 0 ∨ t0 = 1) ∧ Q t0
def wb_X7_isHalf_14 (a0 : Int32) (S : hp_St) (Q : Int32 → Prop) : Prop := wb_X7_isHalf_15 a0 (0 : Int32) S Q
def wp_X7_isHalf (a0 : Int32) (S : hp_St) (Q : Int32 → Prop) : Prop := (((a0 < 0) → wb_X7_isHalf_14 a0 S Q) ∧ ((¬ (a0 < 0)) → (((a0 ≤ (79 : Int32)) → wb_X7_isHalf_15 a0 (1 : Int32) S Q) ∧ ((¬ (a0 ≤ (79 : Int32))) → wb_X7_isHalf_14 a0 S Q))))
theorem nf_X7_isHalf : hp_nf yX7_isHalf 1 = true := by decide +kernel
set_option maxHeartbeats 4000000 in
theorem m_X7_isHalf {l : Launch} {B : Nat} {D : va_G} {s0 : State} {b0 : Nat} (G : hp_G l B D s0 b0) (a0 : Int32) (Si : hp_St) (Q : Int32 → Prop) (h : wp_X7_isHalf a0 Si Q) : hp_M l B D s0 yX7_isHalf cX7_isHalf 1 (some .boolean) 2 128 0 0 [.int a0] Si (hp_Qi B D s0 (fun r S' => S' = Si ∧ Q r)) := by
  refine hp_start G (by decide +kernel) rfl rfl (lv := [(0, .int a0)]) (by simp [lg_sl, hp_vc, hp_ci, hp_cj]) (by simp [lv_args, hp_vc, hp_ci, hp_cj]) ?_
  intro p e s m args below meth c E ls hl hR
  generalize hH : s.heap = H at hR ⊢
  generalize hLo : ([] : List Loc) = locs at hR ⊢
  have b15 : ∀ (t0 : Int32) (H : Heap) (locs : List Loc) (ls : Array Slot), wb_X7_isHalf_15 a0 t0 Si Q → lv_has ls 1 [] → hp_S B D s0 Si H locs → W p l e ({ frames := 2, cells := 0, slots := 0, locals := 128 } : Room) s m args below meth c H locs 0 0 (MQ below (hp_Qi B D s0 (fun r S' => S' = Si ∧ Q r)) args s 0 0 (fun q => B < q)) (F0 m 15 ls [.int t0]) := by
    intro t0 H locs ls h hl hR
    unfold wb_X7_isHalf_15 at h
    obtain ⟨hz1501, h⟩ := h
    exact hp_zret E hR hz1501 ⟨rfl, h⟩ (Nat.le_of_ble_eq_true rfl) (Nat.le_of_ble_eq_true rfl) dX7_isHalf_15
  have b14 : ∀ (H : Heap) (locs : List Loc) (ls : Array Slot), wb_X7_isHalf_14 a0 Si Q → lv_has ls 1 [] → hp_S B D s0 Si H locs → W p l e ({ frames := 2, cells := 0, slots := 0, locals := 128 } : Room) s m args below meth c H locs 0 0 (MQ below (hp_Qi B D s0 (fun r S' => S' = Si ∧ Q r)) args s 0 0 (fun q => B < q)) (F0 m 14 ls []) := by
    intro  H locs ls h hl hR
    unfold wb_X7_isHalf_14 at h
    refine hp_iconst E (0 : Int32) (by decide) dX7_isHalf_14 (rfl : 14 + 1 = 15) ?_
    exact b15 _ _ _ _ h hl hR
  unfold wp_X7_isHalf at h
  refine hp_iload_n E hl 0 rfl 0 rfl dX7_isHalf_0 (rfl : 0 + 1 = 1) ?_
  refine hp_if_lt E dX7_isHalf_1 (rfl : 1 + 3 = 4) (tgt := 14) (by decide) (fun hb => ?_) (fun hb => ?_)
  · have h := h.1 hb
    exact b14 _ _ _ h (lv_sub hl [] rfl) hR
  · have h := h.2 hb
    refine hp_iload_n E hl 0 rfl 0 rfl dX7_isHalf_4 (rfl : 4 + 1 = 5) ?_
    refine hp_bipush E (79 : Int32) (by decide) dX7_isHalf_5 (rfl : 5 + 2 = 7) ?_
    refine hp_icmp_gt E dX7_isHalf_7 (rfl : 7 + 3 = 10) (tgt := 14) (by decide) (fun hb => ?_) (fun hb => ?_)
    · have h := h.1 hb
      refine hp_iconst E (1 : Int32) (by decide) dX7_isHalf_10 (rfl : 10 + 1 = 11) ?_
      refine hp_goto E (tgt := 15) dX7_isHalf_11 (by decide) ?_
      exact b15 _ _ _ _ h (lv_sub hl [] rfl) hR
    · have h := h.2 hb
      exact b14 _ _ _ h (lv_sub hl [] rfl) hR
def wb_X7_parts_38 (o : Nat) (a1 : Int32) (a2 : Int32) (a3 : Int32) (t0 : Int32) (S : hp_St) (Q : Int32 → hp_St → Prop) : Prop := Q t0 S
def wb_X7_parts_37 (o : Nat) (a1 : Int32) (a2 : Int32) (a3 : Int32) (S : hp_St) (Q : Int32 → hp_St → Prop) : Prop := wb_X7_parts_38 o a1 a2 a3 (-1 : Int32) S Q
def wp_X7_parts (o : Nat) (a1 : Int32) (a2 : Int32) (a3 : Int32) (S : hp_St) (Q : Int32 → hp_St → Prop) : Prop := (∀ S1, S1 = st_pI S o 2 (0 : Int32) → wp_X7_isRent o a1 S1 (fun z4 => (((z4 = 0) → wb_X7_parts_37 o a1 a2 a3 S1 Q) ∧ ((¬ (z4 = 0)) → wp_X7_isHolder a2 S1 (fun z5 => (((z5 = 0) → wb_X7_parts_37 o a1 a2 a3 S1 Q) ∧ ((¬ (z5 = 0)) → wp_X7_isHalf a3 S1 (fun z6 => (((z6 = 0) → wb_X7_parts_37 o a1 a2 a3 S1 Q) ∧ ((¬ (z6 = 0)) → wp_X7_partsOf o a1 a2 a3 S1 (fun z7 => wb_X7_parts_38 o a1 a2 a3 z7 S1 Q)))))))))))
theorem nf_X7_parts : hp_nf yX7_parts 3 = true := by decide +kernel
set_option maxHeartbeats 4000000 in
theorem m_X7_parts {l : Launch} {B : Nat} {D : va_G} {s0 : State} {b0 : Nat} (G : hp_G l B D s0 b0) (o : Nat) (a1 : Int32) (a2 : Int32) (a3 : Int32) (Si : hp_St) (Q : Int32 → hp_St → Prop) (hc0 : st_C Si o = 7) (h : wp_X7_parts o a1 a2 a3 Si Q) : hp_M l B D s0 yX7_parts cX7_parts 4 (some .int) 3 192 0 0 [hp_v B o, .int a1, .int a2, .int a3] Si (hp_Qi B D s0 (fun r S' => hp_mono Si S' ∧ Q r S')) := by
  refine hp_start G (by decide +kernel) rfl rfl (lv := [(0, hp_v B o), (1, .int a1), (2, .int a2), (3, .int a3)]) (by simp [lg_sl, hp_vc, hp_ci, hp_cj]) (by simp [lv_args, hp_vc, hp_ci, hp_cj]) ?_
  intro p e s m args below meth c E ls hl hR
  have hm : hp_mono Si Si := hp_mono.rf
  generalize hH : s.heap = H at hR ⊢
  generalize hLo : ([] : List Loc) = locs at hR ⊢
  have b38 : ∀ (t0 : Int32) (S : hp_St) (H : Heap) (locs : List Loc) (ls : Array Slot), wb_X7_parts_38 o a1 a2 a3 t0 S Q → lv_has ls 4 [] → hp_S B D s0 S H locs → hp_mono Si S → W p l e ({ frames := 3, cells := 0, slots := 0, locals := 192 } : Room) s m args below meth c H locs 0 0 (MQ below (hp_Qi B D s0 (fun r S' => hp_mono Si S' ∧ Q r S')) args s 0 0 (fun q => B < q)) (F0 m 38 ls [.int t0]) := by
    intro t0 S H locs ls h hl hR hm
    unfold wb_X7_parts_38 at h
    exact hp_iret E hR ⟨hm, h⟩ (Nat.le_of_ble_eq_true rfl) (Nat.le_of_ble_eq_true rfl) dX7_parts_38
  have b37 : ∀ (S : hp_St) (H : Heap) (locs : List Loc) (ls : Array Slot), wb_X7_parts_37 o a1 a2 a3 S Q → lv_has ls 4 [] → hp_S B D s0 S H locs → hp_mono Si S → W p l e ({ frames := 3, cells := 0, slots := 0, locals := 192 } : Room) s m args below meth c H locs 0 0 (MQ below (hp_Qi B D s0 (fun r S' => hp_mono Si S' ∧ Q r S')) args s 0 0 (fun q => B < q)) (F0 m 37 ls []) := by
    intro S H locs ls h hl hR hm
    unfold wb_X7_parts_37 at h
    refine hp_iconst E (-1 : Int32) (by decide) dX7_parts_37 (rfl : 37 + 1 = 38) ?_
    exact b38 _ _ _ _ _ h hl hR hm
  unfold wp_X7_parts at h
  refine hp_aload_n E hl 0 rfl 0 rfl dX7_parts_0 (rfl : 0 + 1 = 1) ?_
  refine hp_iconst E (0 : Int32) (by decide) dX7_parts_1 (rfl : 1 + 1 = 2) ?_
  refine hx_putI E hR in_X7 tyX7 tyX7_ok nmX7 hc0 rfl 2 (Nat.le_of_ble_eq_true rfl) rfl q1263 (fun _ h => h) (Or.inl rfl) (Or.inl rfl) dX7_parts_2 (rfl : 2 + 3 = 5) (fun S1 H locs e3 hm2 hR => ?_)
  have h := h S1 e3
  have hm := hp_mono.tr hm hm2
  refine hp_aload_n E hl 0 rfl 0 rfl dX7_parts_5 (rfl : 5 + 1 = 6) ?_
  refine hp_iload_n E hl 1 rfl 1 rfl dX7_parts_6 (rfl : 6 + 1 = 7) ?_
  refine hp_fi (hp_rV E hR hl (m_X7_isRent G _ _ _ _ (hp_mono.c hm hc0) h) (hp_mono.c hm hc0) (ci := 6) rfl rfl q1550 q1552 qs50 q82 q1553 nf_X7_isRent ⟨Nat.le_of_ble_eq_true rfl, Nat.le_of_ble_eq_true rfl⟩ (rest := []) rfl (Nat.le_of_ble_eq_true rfl) dX7_parts_7 ⟨Nat.le_of_ble_eq_true rfl, Nat.le_of_ble_eq_true rfl⟩) hR (rfl : 7 + 3 = 10) (fun z4 Sx H locs hq hR => ?_)
  obtain ⟨hSx, h⟩ := hq
  rw [hSx] at hR
  refine hp_if_eq E dX7_parts_10 (rfl : 10 + 3 = 13) (tgt := 37) (by decide) (fun hb => ?_) (fun hb => ?_)
  · have h := h.1 hb
    exact b37 _ _ _ _ h (lv_sub hl [] rfl) hR hm
  · have h := h.2 hb
    refine hp_iload_n E hl 2 rfl 2 rfl dX7_parts_13 (rfl : 13 + 1 = 14) ?_
    refine hp_fi (hp_rS E hR hl (m_X7_isHolder G _ _ _ h) q1543 q1544 q82 q1545 nf_X7_isHolder ⟨Nat.le_of_ble_eq_true rfl, Nat.le_of_ble_eq_true rfl⟩ (rest := []) rfl (Nat.le_of_ble_eq_true rfl) dX7_parts_14 ⟨Nat.le_of_ble_eq_true rfl, Nat.le_of_ble_eq_true rfl⟩) hR (rfl : 14 + 3 = 17) (fun z5 Sx H locs hq hR => ?_)
    obtain ⟨hSx, h⟩ := hq
    rw [hSx] at hR
    refine hp_if_eq E dX7_parts_17 (rfl : 17 + 3 = 20) (tgt := 37) (by decide) (fun hb => ?_) (fun hb => ?_)
    · have h := h.1 hb
      exact b37 _ _ _ _ h (lv_sub hl [] rfl) hR hm
    · have h := h.2 hb
      refine hp_iload_n E hl 3 rfl 3 rfl dX7_parts_20 (rfl : 20 + 1 = 21) ?_
      refine hp_fi (hp_rS E hR hl (m_X7_isHalf G _ _ _ h) q1562 q1563 q82 q1564 nf_X7_isHalf ⟨Nat.le_of_ble_eq_true rfl, Nat.le_of_ble_eq_true rfl⟩ (rest := []) rfl (Nat.le_of_ble_eq_true rfl) dX7_parts_21 ⟨Nat.le_of_ble_eq_true rfl, Nat.le_of_ble_eq_true rfl⟩) hR (rfl : 21 + 3 = 24) (fun z6 Sx H locs hq hR => ?_)
      obtain ⟨hSx, h⟩ := hq
      rw [hSx] at hR
      refine hp_if_eq E dX7_parts_24 (rfl : 24 + 3 = 27) (tgt := 37) (by decide) (fun hb => ?_) (fun hb => ?_)
      · have h := h.1 hb
        exact b37 _ _ _ _ h (lv_sub hl [] rfl) hR hm
      · have h := h.2 hb
        refine hp_aload_n E hl 0 rfl 0 rfl dX7_parts_27 (rfl : 27 + 1 = 28) ?_
        refine hp_iload_n E hl 1 rfl 1 rfl dX7_parts_28 (rfl : 28 + 1 = 29) ?_
        refine hp_iload_n E hl 2 rfl 2 rfl dX7_parts_29 (rfl : 29 + 1 = 30) ?_
        refine hp_iload_n E hl 3 rfl 3 rfl dX7_parts_30 (rfl : 30 + 1 = 31) ?_
        refine hp_fi (hp_rV E hR hl (m_X7_partsOf G _ _ _ _ _ _ (hp_mono.c hm hc0) h) (hp_mono.c hm hc0) (ci := 6) rfl rfl q1554 q1556 qs51 q82 q1557 nf_X7_partsOf ⟨Nat.le_of_ble_eq_true rfl, Nat.le_of_ble_eq_true rfl⟩ (rest := []) rfl (Nat.le_of_ble_eq_true rfl) dX7_parts_31 ⟨Nat.le_of_ble_eq_true rfl, Nat.le_of_ble_eq_true rfl⟩) hR (rfl : 31 + 3 = 34) (fun z7 Sx H locs hq hR => ?_)
        obtain ⟨hSx, h⟩ := hq
        rw [hSx] at hR
        refine hp_goto E (tgt := 38) dX7_parts_34 (by decide) ?_
        exact b38 _ _ _ _ _ h (lv_sub hl [] rfl) hR hm
def wp_X7_told (o : Nat) (a1 : Int32) (a2 : Int32) (a3 : Int32) (S : hp_St) (Q : Int32 → hp_St → Prop) : Prop := (st_C S (st_R S o 17) = 50) ∧ (vp_in (st_I S o 16) (st_L S (st_R S o 17))) ∧ (∀ S3, S3 = st_pI S (st_R S o 17) (st_I S o 16).toNatClampNeg a1 → (st_C S3 (st_R S3 o 18) = 50) ∧ (vp_in (st_I S3 o 16) (st_L S3 (st_R S3 o 18))) ∧ (∀ S8, S8 = st_pI S3 (st_R S3 o 18) (st_I S3 o 16).toNatClampNeg a2 → (st_C S8 (st_R S8 o 19) = 50) ∧ (vp_in (st_I S8 o 16) (st_L S8 (st_R S8 o 19))) ∧ (∀ S13, S13 = st_pI S8 (st_R S8 o 19) (st_I S8 o 16).toNatClampNeg a3 → (st_C S13 (st_R S13 o 20) = 50) ∧ (vp_in (st_I S13 o 16) (st_L S13 (st_R S13 o 20))) ∧ (∀ S18, S18 = st_pI S13 (st_R S13 o 20) (st_I S13 o 16).toNatClampNeg (st_I S13 o 3) → (∀ S21, S21 = st_pI S18 o 16 ((st_I S18 o 16) + (1 : Int32)) → Q ((st_I S21 o 16) - (1 : Int32)) S21)))))
theorem nf_X7_told : hp_nf yX7_told 3 = true := by decide +kernel
set_option maxHeartbeats 4000000 in
theorem m_X7_told {l : Launch} {B : Nat} {D : va_G} {s0 : State} {b0 : Nat} (G : hp_G l B D s0 b0) (o : Nat) (a1 : Int32) (a2 : Int32) (a3 : Int32) (Si : hp_St) (Q : Int32 → hp_St → Prop) (hc0 : st_C Si o = 7) (h : wp_X7_told o a1 a2 a3 Si Q) : hp_M l B D s0 yX7_told cX7_told 4 (some .int) 2 128 0 0 [hp_v B o, .int a1, .int a2, .int a3] Si (hp_Qi B D s0 (fun r S' => hp_mono Si S' ∧ Q r S')) := by
  refine hp_start G (by decide +kernel) rfl rfl (lv := [(0, hp_v B o), (1, .int a1), (2, .int a2), (3, .int a3)]) (by simp [lg_sl, hp_vc, hp_ci, hp_cj]) (by simp [lv_args, hp_vc, hp_ci, hp_cj]) ?_
  intro p e s m args below meth c E ls hl hR
  have hm : hp_mono Si Si := hp_mono.rf
  unfold wp_X7_told at h
  refine hp_aload_n E hl 0 rfl 0 rfl dX7_told_0 (rfl : 0 + 1 = 1) ?_
  refine hp_getR E hR in_X7 hc0 rfl 17 (Nat.le_of_ble_eq_true rfl) rfl q1278 (fun _ h => h) dX7_told_1 (rfl : 1 + 3 = 4) ?_
  refine hp_aload_n E hl 0 rfl 0 rfl dX7_told_4 (rfl : 4 + 1 = 5) ?_
  refine hp_getI E hR in_X7 hc0 rfl 16 (Nat.le_of_ble_eq_true rfl) rfl q1277 (fun _ h => h) dX7_told_5 (rfl : 5 + 3 = 8) ?_
  refine hp_iload_n E hl 1 rfl 1 rfl dX7_told_8 (rfl : 8 + 1 = 9) ?_
  obtain ⟨hc1, h⟩ := h
  obtain ⟨hi2, h⟩ := h
  refine hx_iast E hR hc1 hi2 dX7_told_9 (rfl : 9 + 1 = 10) (fun S3 H locs e5 hm4 hR => ?_)
  have h := h S3 e5
  have hm := hp_mono.tr hm hm4
  refine hp_aload_n E hl 0 rfl 0 rfl dX7_told_10 (rfl : 10 + 1 = 11) ?_
  refine hp_getR E hR in_X7 (hp_mono.c hm hc0) rfl 18 (Nat.le_of_ble_eq_true rfl) rfl q1279 (fun _ h => h) dX7_told_11 (rfl : 11 + 3 = 14) ?_
  refine hp_aload_n E hl 0 rfl 0 rfl dX7_told_14 (rfl : 14 + 1 = 15) ?_
  refine hp_getI E hR in_X7 (hp_mono.c hm hc0) rfl 16 (Nat.le_of_ble_eq_true rfl) rfl q1277 (fun _ h => h) dX7_told_15 (rfl : 15 + 3 = 18) ?_
  refine hp_iload_n E hl 2 rfl 2 rfl dX7_told_18 (rfl : 18 + 1 = 19) ?_
  obtain ⟨hc6, h⟩ := h
  obtain ⟨hi7, h⟩ := h
  refine hx_iast E hR hc6 hi7 dX7_told_19 (rfl : 19 + 1 = 20) (fun S8 H locs e10 hm9 hR => ?_)
  have h := h S8 e10
  have hm := hp_mono.tr hm hm9
  refine hp_aload_n E hl 0 rfl 0 rfl dX7_told_20 (rfl : 20 + 1 = 21) ?_
  refine hp_getR E hR in_X7 (hp_mono.c hm hc0) rfl 19 (Nat.le_of_ble_eq_true rfl) rfl q1280 (fun _ h => h) dX7_told_21 (rfl : 21 + 3 = 24) ?_
  refine hp_aload_n E hl 0 rfl 0 rfl dX7_told_24 (rfl : 24 + 1 = 25) ?_
  refine hp_getI E hR in_X7 (hp_mono.c hm hc0) rfl 16 (Nat.le_of_ble_eq_true rfl) rfl q1277 (fun _ h => h) dX7_told_25 (rfl : 25 + 3 = 28) ?_
  refine hp_iload_n E hl 3 rfl 3 rfl dX7_told_28 (rfl : 28 + 1 = 29) ?_
  obtain ⟨hc11, h⟩ := h
  obtain ⟨hi12, h⟩ := h
  refine hx_iast E hR hc11 hi12 dX7_told_29 (rfl : 29 + 1 = 30) (fun S13 H locs e15 hm14 hR => ?_)
  have h := h S13 e15
  have hm := hp_mono.tr hm hm14
  refine hp_aload_n E hl 0 rfl 0 rfl dX7_told_30 (rfl : 30 + 1 = 31) ?_
  refine hp_getR E hR in_X7 (hp_mono.c hm hc0) rfl 20 (Nat.le_of_ble_eq_true rfl) rfl q1281 (fun _ h => h) dX7_told_31 (rfl : 31 + 3 = 34) ?_
  refine hp_aload_n E hl 0 rfl 0 rfl dX7_told_34 (rfl : 34 + 1 = 35) ?_
  refine hp_getI E hR in_X7 (hp_mono.c hm hc0) rfl 16 (Nat.le_of_ble_eq_true rfl) rfl q1277 (fun _ h => h) dX7_told_35 (rfl : 35 + 3 = 38) ?_
  refine hp_aload_n E hl 0 rfl 0 rfl dX7_told_38 (rfl : 38 + 1 = 39) ?_
  refine hp_getI E hR in_X7 (hp_mono.c hm hc0) rfl 3 (Nat.le_of_ble_eq_true rfl) rfl q1264 (fun _ h => h) dX7_told_39 (rfl : 39 + 3 = 42) ?_
  obtain ⟨hc16, h⟩ := h
  obtain ⟨hi17, h⟩ := h
  refine hx_iast E hR hc16 hi17 dX7_told_42 (rfl : 42 + 1 = 43) (fun S18 H locs e20 hm19 hR => ?_)
  have h := h S18 e20
  have hm := hp_mono.tr hm hm19
  refine hp_aload_n E hl 0 rfl 0 rfl dX7_told_43 (rfl : 43 + 1 = 44) ?_
  refine hp_dup E hp_vc dX7_told_44 (rfl : 44 + 1 = 45) ?_
  refine hp_getI E hR in_X7 (hp_mono.c hm hc0) rfl 16 (Nat.le_of_ble_eq_true rfl) rfl q1277 (fun _ h => h) dX7_told_45 (rfl : 45 + 3 = 48) ?_
  refine hp_iconst E (1 : Int32) (by decide) dX7_told_48 (rfl : 48 + 1 = 49) ?_
  refine hp_iadd E dX7_told_49 (rfl : 49 + 1 = 50) ?_
  refine hx_putI E hR in_X7 tyX7 tyX7_ok nmX7 (hp_mono.c hm hc0) rfl 16 (Nat.le_of_ble_eq_true rfl) rfl q1277 (fun _ h => h) (Or.inl rfl) (Or.inl rfl) dX7_told_50 (rfl : 50 + 3 = 53) (fun S21 H locs e23 hm22 hR => ?_)
  have h := h S21 e23
  have hm := hp_mono.tr hm hm22
  refine hp_aload_n E hl 0 rfl 0 rfl dX7_told_53 (rfl : 53 + 1 = 54) ?_
  refine hp_getI E hR in_X7 (hp_mono.c hm hc0) rfl 16 (Nat.le_of_ble_eq_true rfl) rfl q1277 (fun _ h => h) dX7_told_54 (rfl : 54 + 3 = 57) ?_
  refine hp_iconst E (1 : Int32) (by decide) dX7_told_57 (rfl : 57 + 1 = 58) ?_
  refine hp_isub E dX7_told_58 (rfl : 58 + 1 = 59) ?_
  exact hp_iret E hR ⟨hm, h⟩ (Nat.le_of_ble_eq_true rfl) (Nat.le_of_ble_eq_true rfl) dX7_told_59
def wb_X7_note_53 (o : Nat) (a1 : Int32) (a2 : Int32) (a3 : Int32) (t0 : Int32) (S : hp_St) (Q : Int32 → hp_St → Prop) : Prop := Q t0 S
def wb_X7_note_34 (o : Nat) (a1 : Int32) (a2 : Int32) (a3 : Int32) (S : hp_St) (Q : Int32 → hp_St → Prop) : Prop := wb_X7_note_53 o a1 a2 a3 (-1 : Int32) S Q
def wb_X7_note_48 (o : Nat) (a1 : Int32) (a2 : Int32) (a3 : Int32) (t0 : Nat) (t1 : Int32) (S : hp_St) (Q : Int32 → hp_St → Prop) : Prop := (st_C S t0 = 7) ∧ wp_X7_told t0 t1 a1 a2 S (fun z4802 S4803 => hp_mono S S4803 → wb_X7_note_53 o a1 a2 a3 z4802 S4803 Q)
def wp_X7_note (o : Nat) (a1 : Int32) (a2 : Int32) (a3 : Int32) (S : hp_St) (Q : Int32 → hp_St → Prop) : Prop := (∀ S1, S1 = st_pI S o 2 (0 : Int32) → ((((st_I S1 o 16) = (60 : Int32)) → wb_X7_note_34 o a1 a2 a3 S1 Q) ∧ ((¬ ((st_I S1 o 16) = (60 : Int32))) → wp_X7_isLife o a1 S1 (fun z4 => (((z4 = 0) → wb_X7_note_34 o a1 a2 a3 S1 Q) ∧ ((¬ (z4 = 0)) → wp_X7_isIn a2 (0 : Int32) (st_I S1 o 3) S1 (fun z5 => (((z5 = 0) → wb_X7_note_34 o a1 a2 a3 S1 Q) ∧ ((¬ (z5 = 0)) → (((a3 = 0) → wb_X7_note_48 o a1 a2 a3 o (0 : Int32) S1 Q) ∧ ((¬ (a3 = 0)) → wb_X7_note_48 o a1 a2 a3 o (1 : Int32) S1 Q)))))))))))
theorem nf_X7_note : hp_nf yX7_note 3 = true := by decide +kernel
set_option maxHeartbeats 4000000 in
theorem m_X7_note {l : Launch} {B : Nat} {D : va_G} {s0 : State} {b0 : Nat} (G : hp_G l B D s0 b0) (o : Nat) (a1 : Int32) (a2 : Int32) (a3 : Int32) (Si : hp_St) (Q : Int32 → hp_St → Prop) (hc0 : st_C Si o = 7) (h : wp_X7_note o a1 a2 a3 Si Q) : hp_M l B D s0 yX7_note cX7_note 4 (some .int) 3 192 0 0 [hp_v B o, .int a1, .int a2, .int a3] Si (hp_Qi B D s0 (fun r S' => hp_mono Si S' ∧ Q r S')) := by
  refine hp_start G (by decide +kernel) rfl rfl (lv := [(0, hp_v B o), (1, .int a1), (2, .int a2), (3, .int a3)]) (by simp [lg_sl, hp_vc, hp_ci, hp_cj]) (by simp [lv_args, hp_vc, hp_ci, hp_cj]) ?_
  intro p e s m args below meth c E ls hl hR
  have hm : hp_mono Si Si := hp_mono.rf
  generalize hH : s.heap = H at hR ⊢
  generalize hLo : ([] : List Loc) = locs at hR ⊢
  have b53 : ∀ (t0 : Int32) (S : hp_St) (H : Heap) (locs : List Loc) (ls : Array Slot), wb_X7_note_53 o a1 a2 a3 t0 S Q → lv_has ls 4 [] → hp_S B D s0 S H locs → hp_mono Si S → W p l e ({ frames := 3, cells := 0, slots := 0, locals := 192 } : Room) s m args below meth c H locs 0 0 (MQ below (hp_Qi B D s0 (fun r S' => hp_mono Si S' ∧ Q r S')) args s 0 0 (fun q => B < q)) (F0 m 53 ls [.int t0]) := by
    intro t0 S H locs ls h hl hR hm
    unfold wb_X7_note_53 at h
    exact hp_iret E hR ⟨hm, h⟩ (Nat.le_of_ble_eq_true rfl) (Nat.le_of_ble_eq_true rfl) dX7_note_53
  have b34 : ∀ (S : hp_St) (H : Heap) (locs : List Loc) (ls : Array Slot), wb_X7_note_34 o a1 a2 a3 S Q → lv_has ls 4 [] → hp_S B D s0 S H locs → hp_mono Si S → W p l e ({ frames := 3, cells := 0, slots := 0, locals := 192 } : Room) s m args below meth c H locs 0 0 (MQ below (hp_Qi B D s0 (fun r S' => hp_mono Si S' ∧ Q r S')) args s 0 0 (fun q => B < q)) (F0 m 34 ls []) := by
    intro S H locs ls h hl hR hm
    unfold wb_X7_note_34 at h
    refine hp_iconst E (-1 : Int32) (by decide) dX7_note_34 (rfl : 34 + 1 = 35) ?_
    refine hp_goto E (tgt := 53) dX7_note_35 (by decide) ?_
    exact b53 _ _ _ _ _ h hl hR hm
  have b48 : ∀ (t0 : Nat) (t1 : Int32) (S : hp_St) (H : Heap) (locs : List Loc) (ls : Array Slot), wb_X7_note_48 o a1 a2 a3 t0 t1 S Q → lv_has ls 4 [(1, .int a1), (2, .int a2)] → hp_S B D s0 S H locs → hp_mono Si S → W p l e ({ frames := 3, cells := 0, slots := 0, locals := 192 } : Room) s m args below meth c H locs 0 0 (MQ below (hp_Qi B D s0 (fun r S' => hp_mono Si S' ∧ Q r S')) args s 0 0 (fun q => B < q)) (F0 m 48 ls [.int t1, hp_v B t0]) := by
    intro t0 t1 S H locs ls h hl hR hm
    unfold wb_X7_note_48 at h
    refine hp_iload_n E hl 1 rfl 0 rfl dX7_note_48 (rfl : 48 + 1 = 49) ?_
    refine hp_iload_n E hl 2 rfl 1 rfl dX7_note_49 (rfl : 49 + 1 = 50) ?_
    obtain ⟨hc4801, h⟩ := h
    refine hp_fi (hp_rV E hR hl (m_X7_told G _ _ _ _ _ _ hc4801 h) hc4801 (ci := 6) rfl rfl q1569 q1571 qs52 q82 q1572 nf_X7_told ⟨Nat.le_of_ble_eq_true rfl, Nat.le_of_ble_eq_true rfl⟩ (rest := []) rfl (Nat.le_of_ble_eq_true rfl) dX7_note_50 ⟨Nat.le_of_ble_eq_true rfl, Nat.le_of_ble_eq_true rfl⟩) hR (rfl : 50 + 3 = 53) (fun z4802 S4803 H locs hq hR => ?_)
    obtain ⟨hm4804, h⟩ := hq
    have h := h hm4804
    have hm := hp_mono.tr hm hm4804
    exact b53 _ _ _ _ _ h (lv_sub hl [] rfl) hR hm
  unfold wp_X7_note at h
  refine hp_aload_n E hl 0 rfl 0 rfl dX7_note_0 (rfl : 0 + 1 = 1) ?_
  refine hp_iconst E (0 : Int32) (by decide) dX7_note_1 (rfl : 1 + 1 = 2) ?_
  refine hx_putI E hR in_X7 tyX7 tyX7_ok nmX7 hc0 rfl 2 (Nat.le_of_ble_eq_true rfl) rfl q1263 (fun _ h => h) (Or.inl rfl) (Or.inl rfl) dX7_note_2 (rfl : 2 + 3 = 5) (fun S1 H locs e3 hm2 hR => ?_)
  have h := h S1 e3
  have hm := hp_mono.tr hm hm2
  refine hp_aload_n E hl 0 rfl 0 rfl dX7_note_5 (rfl : 5 + 1 = 6) ?_
  refine hp_getI E hR in_X7 (hp_mono.c hm hc0) rfl 16 (Nat.le_of_ble_eq_true rfl) rfl q1277 (fun _ h => h) dX7_note_6 (rfl : 6 + 3 = 9) ?_
  refine hp_bipush E (60 : Int32) (by decide) dX7_note_9 (rfl : 9 + 2 = 11) ?_
  refine hp_icmp_eq E dX7_note_11 (rfl : 11 + 3 = 14) (tgt := 34) (by decide) (fun hb => ?_) (fun hb => ?_)
  · have h := h.1 hb
    exact b34 _ _ _ _ h (lv_sub hl [] rfl) hR hm
  · have h := h.2 hb
    refine hp_aload_n E hl 0 rfl 0 rfl dX7_note_14 (rfl : 14 + 1 = 15) ?_
    refine hp_iload_n E hl 1 rfl 1 rfl dX7_note_15 (rfl : 15 + 1 = 16) ?_
    refine hp_fi (hp_rV E hR hl (m_X7_isLife G _ _ _ _ (hp_mono.c hm hc0) h) (hp_mono.c hm hc0) (ci := 6) rfl rfl q1515 q1517 qs44 q82 q1518 nf_X7_isLife ⟨Nat.le_of_ble_eq_true rfl, Nat.le_of_ble_eq_true rfl⟩ (rest := []) rfl (Nat.le_of_ble_eq_true rfl) dX7_note_16 ⟨Nat.le_of_ble_eq_true rfl, Nat.le_of_ble_eq_true rfl⟩) hR (rfl : 16 + 3 = 19) (fun z4 Sx H locs hq hR => ?_)
    obtain ⟨hSx, h⟩ := hq
    rw [hSx] at hR
    refine hp_if_eq E dX7_note_19 (rfl : 19 + 3 = 22) (tgt := 34) (by decide) (fun hb => ?_) (fun hb => ?_)
    · have h := h.1 hb
      exact b34 _ _ _ _ h (lv_sub hl [] rfl) hR hm
    · have h := h.2 hb
      refine hp_iload_n E hl 2 rfl 2 rfl dX7_note_22 (rfl : 22 + 1 = 23) ?_
      refine hp_iconst E (0 : Int32) (by decide) dX7_note_23 (rfl : 23 + 1 = 24) ?_
      refine hp_aload_n E hl 0 rfl 0 rfl dX7_note_24 (rfl : 24 + 1 = 25) ?_
      refine hp_getI E hR in_X7 (hp_mono.c hm hc0) rfl 3 (Nat.le_of_ble_eq_true rfl) rfl q1264 (fun _ h => h) dX7_note_25 (rfl : 25 + 3 = 28) ?_
      refine hp_fi (hp_rS E hR hl (m_X7_isIn G _ _ _ _ _ h) q1504 q1505 q82 q1506 nf_X7_isIn ⟨Nat.le_of_ble_eq_true rfl, Nat.le_of_ble_eq_true rfl⟩ (rest := []) rfl (Nat.le_of_ble_eq_true rfl) dX7_note_28 ⟨Nat.le_of_ble_eq_true rfl, Nat.le_of_ble_eq_true rfl⟩) hR (rfl : 28 + 3 = 31) (fun z5 Sx H locs hq hR => ?_)
      obtain ⟨hSx, h⟩ := hq
      rw [hSx] at hR
      refine hp_if_ne E dX7_note_31 (rfl : 31 + 3 = 34) (tgt := 38) (by decide) (fun hb => ?_) (fun hb => ?_)
      · have h := h.1 hb
        exact b34 _ _ _ _ h (lv_sub hl [] rfl) hR hm
      · have h := h.2 hb
        refine hp_aload_n E hl 0 rfl 0 rfl dX7_note_38 (rfl : 38 + 1 = 39) ?_
        refine hp_iload_n E hl 3 rfl 3 rfl dX7_note_39 (rfl : 39 + 1 = 40) ?_
        refine hp_if_eq E dX7_note_40 (rfl : 40 + 3 = 43) (tgt := 47) (by decide) (fun hb => ?_) (fun hb => ?_)
        · have h := h.1 hb
          refine hp_iconst E (0 : Int32) (by decide) dX7_note_47 (rfl : 47 + 1 = 48) ?_
          exact b48 _ _ _ _ _ _ h (lv_sub hl [1, 2] rfl) hR hm
        · have h := h.2 hb
          refine hp_iconst E (1 : Int32) (by decide) dX7_note_43 (rfl : 43 + 1 = 44) ?_
          refine hp_goto E (tgt := 48) dX7_note_44 (by decide) ?_
          exact b48 _ _ _ _ _ _ h (lv_sub hl [1, 2] rfl) hR hm
def wb_X7_strike_37 (o : Nat) (a1 : Int32) (t0 : Int32) (S : hp_St) (Q : Int32 → hp_St → Prop) : Prop := Q t0 S
def wb_X7_strike_26 (o : Nat) (a1 : Int32) (S : hp_St) (Q : Int32 → hp_St → Prop) : Prop := wb_X7_strike_37 o a1 (-1 : Int32) S Q
def wp_X7_strike (o : Nat) (a1 : Int32) (S : hp_St) (Q : Int32 → hp_St → Prop) : Prop := (∀ S1, S1 = st_pI S o 2 (0 : Int32) → ((((st_I S1 o 16) = (60 : Int32)) → wb_X7_strike_26 o a1 S1 Q) ∧ ((¬ ((st_I S1 o 16) = (60 : Int32))) → (((a1 < 0) → wb_X7_strike_26 o a1 S1 Q) ∧ ((¬ (a1 < 0)) → (((a1 < (st_I S1 o 16)) → wp_X7_told o (2 : Int32) a1 (0 : Int32) S1 (fun z4 S5 => hp_mono S1 S5 → wb_X7_strike_37 o a1 z4 S5 Q)) ∧ ((¬ (a1 < (st_I S1 o 16))) → wb_X7_strike_26 o a1 S1 Q)))))))
theorem nf_X7_strike : hp_nf yX7_strike 1 = true := by decide +kernel
set_option maxHeartbeats 4000000 in
theorem m_X7_strike {l : Launch} {B : Nat} {D : va_G} {s0 : State} {b0 : Nat} (G : hp_G l B D s0 b0) (o : Nat) (a1 : Int32) (Si : hp_St) (Q : Int32 → hp_St → Prop) (hc0 : st_C Si o = 7) (h : wp_X7_strike o a1 Si Q) : hp_M l B D s0 yX7_strike cX7_strike 2 (some .int) 3 192 0 0 [hp_v B o, .int a1] Si (hp_Qi B D s0 (fun r S' => hp_mono Si S' ∧ Q r S')) := by
  refine hp_start G (by decide +kernel) rfl rfl (lv := [(0, hp_v B o), (1, .int a1)]) (by simp [lg_sl, hp_vc, hp_ci, hp_cj]) (by simp [lv_args, hp_vc, hp_ci, hp_cj]) ?_
  intro p e s m args below meth c E ls hl hR
  have hm : hp_mono Si Si := hp_mono.rf
  generalize hH : s.heap = H at hR ⊢
  generalize hLo : ([] : List Loc) = locs at hR ⊢
  have b37 : ∀ (t0 : Int32) (S : hp_St) (H : Heap) (locs : List Loc) (ls : Array Slot), wb_X7_strike_37 o a1 t0 S Q → lv_has ls 2 [] → hp_S B D s0 S H locs → hp_mono Si S → W p l e ({ frames := 3, cells := 0, slots := 0, locals := 192 } : Room) s m args below meth c H locs 0 0 (MQ below (hp_Qi B D s0 (fun r S' => hp_mono Si S' ∧ Q r S')) args s 0 0 (fun q => B < q)) (F0 m 37 ls [.int t0]) := by
    intro t0 S H locs ls h hl hR hm
    unfold wb_X7_strike_37 at h
    exact hp_iret E hR ⟨hm, h⟩ (Nat.le_of_ble_eq_true rfl) (Nat.le_of_ble_eq_true rfl) dX7_strike_37
  have b26 : ∀ (S : hp_St) (H : Heap) (locs : List Loc) (ls : Array Slot), wb_X7_strike_26 o a1 S Q → lv_has ls 2 [] → hp_S B D s0 S H locs → hp_mono Si S → W p l e ({ frames := 3, cells := 0, slots := 0, locals := 192 } : Room) s m args below meth c H locs 0 0 (MQ below (hp_Qi B D s0 (fun r S' => hp_mono Si S' ∧ Q r S')) args s 0 0 (fun q => B < q)) (F0 m 26 ls []) := by
    intro S H locs ls h hl hR hm
    unfold wb_X7_strike_26 at h
    refine hp_iconst E (-1 : Int32) (by decide) dX7_strike_26 (rfl : 26 + 1 = 27) ?_
    refine hp_goto E (tgt := 37) dX7_strike_27 (by decide) ?_
    exact b37 _ _ _ _ _ h hl hR hm
  unfold wp_X7_strike at h
  refine hp_aload_n E hl 0 rfl 0 rfl dX7_strike_0 (rfl : 0 + 1 = 1) ?_
  refine hp_iconst E (0 : Int32) (by decide) dX7_strike_1 (rfl : 1 + 1 = 2) ?_
  refine hx_putI E hR in_X7 tyX7 tyX7_ok nmX7 hc0 rfl 2 (Nat.le_of_ble_eq_true rfl) rfl q1263 (fun _ h => h) (Or.inl rfl) (Or.inl rfl) dX7_strike_2 (rfl : 2 + 3 = 5) (fun S1 H locs e3 hm2 hR => ?_)
  have h := h S1 e3
  have hm := hp_mono.tr hm hm2
  refine hp_aload_n E hl 0 rfl 0 rfl dX7_strike_5 (rfl : 5 + 1 = 6) ?_
  refine hp_getI E hR in_X7 (hp_mono.c hm hc0) rfl 16 (Nat.le_of_ble_eq_true rfl) rfl q1277 (fun _ h => h) dX7_strike_6 (rfl : 6 + 3 = 9) ?_
  refine hp_bipush E (60 : Int32) (by decide) dX7_strike_9 (rfl : 9 + 2 = 11) ?_
  refine hp_icmp_eq E dX7_strike_11 (rfl : 11 + 3 = 14) (tgt := 26) (by decide) (fun hb => ?_) (fun hb => ?_)
  · have h := h.1 hb
    exact b26 _ _ _ _ h (lv_sub hl [] rfl) hR hm
  · have h := h.2 hb
    refine hp_iload_n E hl 1 rfl 1 rfl dX7_strike_14 (rfl : 14 + 1 = 15) ?_
    refine hp_if_lt E dX7_strike_15 (rfl : 15 + 3 = 18) (tgt := 26) (by decide) (fun hb => ?_) (fun hb => ?_)
    · have h := h.1 hb
      exact b26 _ _ _ _ h (lv_sub hl [] rfl) hR hm
    · have h := h.2 hb
      refine hp_iload_n E hl 1 rfl 1 rfl dX7_strike_18 (rfl : 18 + 1 = 19) ?_
      refine hp_aload_n E hl 0 rfl 0 rfl dX7_strike_19 (rfl : 19 + 1 = 20) ?_
      refine hp_getI E hR in_X7 (hp_mono.c hm hc0) rfl 16 (Nat.le_of_ble_eq_true rfl) rfl q1277 (fun _ h => h) dX7_strike_20 (rfl : 20 + 3 = 23) ?_
      refine hp_icmp_lt E dX7_strike_23 (rfl : 23 + 3 = 26) (tgt := 30) (by decide) (fun hb => ?_) (fun hb => ?_)
      · have h := h.1 hb
        refine hp_aload_n E hl 0 rfl 0 rfl dX7_strike_30 (rfl : 30 + 1 = 31) ?_
        refine hp_iconst E (2 : Int32) (by decide) dX7_strike_31 (rfl : 31 + 1 = 32) ?_
        refine hp_iload_n E hl 1 rfl 1 rfl dX7_strike_32 (rfl : 32 + 1 = 33) ?_
        refine hp_iconst E (0 : Int32) (by decide) dX7_strike_33 (rfl : 33 + 1 = 34) ?_
        refine hp_fi (hp_rV E hR hl (m_X7_told G _ _ _ _ _ _ (hp_mono.c hm hc0) h) (hp_mono.c hm hc0) (ci := 6) rfl rfl q1569 q1571 qs52 q82 q1572 nf_X7_told ⟨Nat.le_of_ble_eq_true rfl, Nat.le_of_ble_eq_true rfl⟩ (rest := []) rfl (Nat.le_of_ble_eq_true rfl) dX7_strike_34 ⟨Nat.le_of_ble_eq_true rfl, Nat.le_of_ble_eq_true rfl⟩) hR (rfl : 34 + 3 = 37) (fun z4 S5 H locs hq hR => ?_)
        obtain ⟨hm6, h⟩ := hq
        have h := h hm6
        have hm := hp_mono.tr hm hm6
        exact b37 _ _ _ _ _ h (lv_sub hl [] rfl) hR hm
      · have h := h.2 hb
        exact b26 _ _ _ _ h (lv_sub hl [] rfl) hR hm
def wb_X7_know_152 (o : Nat) (a1 : Int32) (v2 : Int32) (S : hp_St) (K108 : Int32 → hp_St → Prop) (Q : hp_St → Prop) : Prop := K108 (v2 + (1 : Int32)) S
def wb_X7_know_108 (o : Nat) (a1 : Int32) (v2 : Int32) (S : hp_St) (K108 : Int32 → hp_St → Prop) (Q : hp_St → Prop) : Prop := (((v2 < (st_I S o 16)) → (st_C S (st_R S o 17) = 50) ∧ (vp_in v2 (st_L S (st_R S o 17))) ∧ ((((st_I S (st_R S o 17) v2.toNatClampNeg) = (1 : Int32)) → (st_C S (st_R S o 44) = 51) ∧ (vp_in v2 (st_L S (st_R S o 44))) ∧ ((((st_I S (st_R S o 44) v2.toNatClampNeg) = 0) → wb_X7_know_152 o a1 v2 S K108 Q) ∧ ((¬ ((st_I S (st_R S o 44) v2.toNatClampNeg) = 0)) → (st_C S (st_R S o 18) = 50) ∧ (vp_in v2 (st_L S (st_R S o 18))) ∧ (st_C S (st_R S o 19) = 50) ∧ (vp_in v2 (st_L S (st_R S o 19))) ∧ (st_C S (st_R S o 45) = 50) ∧ (vp_in (st_I S (st_R S o 18) v2.toNatClampNeg) (st_L S (st_R S o 45))) ∧ (∀ S10811, S10811 = st_pI S (st_R S o 45) (st_I S (st_R S o 18) v2.toNatClampNeg).toNatClampNeg (st_I S (st_R S o 19) v2.toNatClampNeg) → wb_X7_know_152 o a1 v2 S10811 K108 Q)))) ∧ ((¬ ((st_I S (st_R S o 17) v2.toNatClampNeg) = (1 : Int32))) → wb_X7_know_152 o a1 v2 S K108 Q))) ∧ ((¬ (v2 < (st_I S o 16))) → Q S))
def wl_X7_know_108 (o : Nat) (a1 : Int32) (v2 : Int32) (S : hp_St) (Q : hp_St → Prop) : Prop := ∃ (I : Int32 → hp_St → Prop) (μ : Int32 → hp_St → Nat), I v2 S ∧ ∀ (v2 : Int32) (S1 : hp_St), hp_mono S S1 → I v2 S1 → wb_X7_know_108 o a1 v2 S1 (fun v2' S2 => I v2' S2 ∧ μ v2' S2 < μ v2 S1) Q
def wb_X7_know_87 (o : Nat) (a1 : Int32) (v2 : Int32) (S : hp_St) (K87 : Int32 → hp_St → Prop) (Q : hp_St → Prop) : Prop := (((v2 < (12 : Int32)) → (st_C S (st_R S o 45) = 50) ∧ (vp_in v2 (st_L S (st_R S o 45))) ∧ (∀ S8703, S8703 = st_pI S (st_R S o 45) v2.toNatClampNeg (-1 : Int32) → K87 (v2 + (1 : Int32)) S8703)) ∧ ((¬ (v2 < (12 : Int32))) → wl_X7_know_108 o a1 (0 : Int32) S Q))
def wl_X7_know_87 (o : Nat) (a1 : Int32) (v2 : Int32) (S : hp_St) (Q : hp_St → Prop) : Prop := ∃ (I : Int32 → hp_St → Prop) (μ : Int32 → hp_St → Nat), I v2 S ∧ ∀ (v2 : Int32) (S1 : hp_St), hp_mono S S1 → I v2 S1 → wb_X7_know_87 o a1 v2 S1 (fun v2' S2 => I v2' S2 ∧ μ v2' S2 < μ v2 S1) Q
def wb_X7_know_79 (o : Nat) (a1 : Int32) (v2 : Int32) (S : hp_St) (K44 : Int32 → hp_St → Prop) (Q : hp_St → Prop) : Prop := K44 (v2 + (-1 : Int32)) S
def wb_X7_know_44 (o : Nat) (a1 : Int32) (v2 : Int32) (S : hp_St) (K44 : Int32 → hp_St → Prop) (Q : hp_St → Prop) : Prop := (((v2 < 0) → wl_X7_know_87 o a1 (0 : Int32) S Q) ∧ ((¬ (v2 < 0)) → (st_C S (st_R S o 17) = 50) ∧ (vp_in v2 (st_L S (st_R S o 17))) ∧ ((((st_I S (st_R S o 17) v2.toNatClampNeg) = (2 : Int32)) → (st_C S (st_R S o 44) = 51) ∧ (vp_in v2 (st_L S (st_R S o 44))) ∧ ((((st_I S (st_R S o 44) v2.toNatClampNeg) = 0) → wb_X7_know_79 o a1 v2 S K44 Q) ∧ ((¬ ((st_I S (st_R S o 44) v2.toNatClampNeg) = 0)) → (st_C S (st_R S o 18) = 50) ∧ (vp_in v2 (st_L S (st_R S o 18))) ∧ (vp_in (st_I S (st_R S o 18) v2.toNatClampNeg) (st_L S (st_R S o 44))) ∧ (∀ S4408, S4408 = st_pI S (st_R S o 44) (st_I S (st_R S o 18) v2.toNatClampNeg).toNatClampNeg (0 : Int32) → wb_X7_know_79 o a1 v2 S4408 K44 Q)))) ∧ ((¬ ((st_I S (st_R S o 17) v2.toNatClampNeg) = (2 : Int32))) → wb_X7_know_79 o a1 v2 S K44 Q))))
def wl_X7_know_44 (o : Nat) (a1 : Int32) (v2 : Int32) (S : hp_St) (Q : hp_St → Prop) : Prop := ∃ (I : Int32 → hp_St → Prop) (μ : Int32 → hp_St → Nat), I v2 S ∧ ∀ (v2 : Int32) (S1 : hp_St), hp_mono S S1 → I v2 S1 → wb_X7_know_44 o a1 v2 S1 (fun v2' S2 => I v2' S2 ∧ μ v2' S2 < μ v2 S1) Q
def wb_X7_know_30 (o : Nat) (a1 : Int32) (v2 : Int32) (t0 : Nat) (t1 : Int32) (t2 : Int32) (S : hp_St) (K2 : Int32 → hp_St → Prop) (Q : hp_St → Prop) : Prop := (st_C S t0 = 51) ∧ (vp_in t1 (st_L S t0)) ∧ (t2 = 0 ∨ t2 = 1) ∧ (∀ S3004, S3004 = st_pI S t0 t1.toNatClampNeg t2 → K2 (v2 + (1 : Int32)) S3004)
def wb_X7_know_2 (o : Nat) (a1 : Int32) (v2 : Int32) (S : hp_St) (K2 : Int32 → hp_St → Prop) (Q : hp_St → Prop) : Prop := (((v2 < (st_I S o 16)) → (st_C S (st_R S o 20) = 50) ∧ (vp_in v2 (st_L S (st_R S o 20))) ∧ ((((st_I S (st_R S o 20) v2.toNatClampNeg) ≤ a1) → wb_X7_know_30 o a1 v2 (st_R S o 44) v2 (1 : Int32) S K2 Q) ∧ ((¬ ((st_I S (st_R S o 20) v2.toNatClampNeg) ≤ a1)) → wb_X7_know_30 o a1 v2 (st_R S o 44) v2 (0 : Int32) S K2 Q))) ∧ ((¬ (v2 < (st_I S o 16))) → wl_X7_know_44 o a1 ((st_I S o 16) - (1 : Int32)) S Q))
def wl_X7_know_2 (o : Nat) (a1 : Int32) (v2 : Int32) (S : hp_St) (Q : hp_St → Prop) : Prop := ∃ (I : Int32 → hp_St → Prop) (μ : Int32 → hp_St → Nat), I v2 S ∧ ∀ (v2 : Int32) (S1 : hp_St), hp_mono S S1 → I v2 S1 → wb_X7_know_2 o a1 v2 S1 (fun v2' S2 => I v2' S2 ∧ μ v2' S2 < μ v2 S1) Q
def wp_X7_know (o : Nat) (a1 : Int32) (S : hp_St) (Q : hp_St → Prop) : Prop := wl_X7_know_2 o a1 (0 : Int32) S Q
theorem nf_X7_know : hp_nf yX7_know 1 = true := by decide +kernel
set_option maxHeartbeats 4000000 in
theorem m_X7_know {l : Launch} {B : Nat} {D : va_G} {s0 : State} {b0 : Nat} (G : hp_G l B D s0 b0) (o : Nat) (a1 : Int32) (Si : hp_St) (Q : hp_St → Prop) (hc0 : st_C Si o = 7) (h : wp_X7_know o a1 Si Q) : hp_M l B D s0 yX7_know cX7_know 3 none 2 128 0 0 [hp_v B o, .int a1] Si (hp_Qv B D s0 (fun S' => hp_mono Si S' ∧ Q S')) := by
  refine hp_start G (by decide +kernel) rfl rfl (lv := [(0, hp_v B o), (1, .int a1)]) (by simp [lg_sl, hp_vc, hp_ci, hp_cj]) (by simp [lv_args, hp_vc, hp_ci, hp_cj]) ?_
  intro p e s m args below meth c E ls hl hR
  have hm : hp_mono Si Si := hp_mono.rf
  generalize hH : s.heap = H at hR ⊢
  generalize hLo : ([] : List Loc) = locs at hR ⊢
  have b108 : ∀ (v2 : Int32) (S : hp_St) (H : Heap) (locs : List Loc) (ls : Array Slot), wl_X7_know_108 o a1 v2 S Q → lv_has ls 3 [(0, hp_v B o), (2, .int v2)] → hp_S B D s0 S H locs → hp_mono Si S → W p l e ({ frames := 2, cells := 0, slots := 0, locals := 128 } : Room) s m args below meth c H locs 0 0 (MQ below (hp_Qv B D s0 (fun S' => hp_mono Si S' ∧ Q S')) args s 0 0 (fun q => B < q)) (F0 m 108 ls []) := by
    intro v2 S H locs ls h hl hR hm
    obtain ⟨I108, μ108, hI, hst⟩ := h
    obtain ⟨Sa108, eSa108⟩ : ∃ x, x = S := ⟨_, rfl⟩
    subst eSa108
    have key108 : ∀ (N : Nat) (v2 : Int32) (Su108 : hp_St) (H : Heap) (locs : List Loc) (ls : Array Slot), μ108 v2 Su108 < N → I108 v2 Su108 → lv_has ls 3 [(0, hp_v B o), (2, .int v2)] → hp_S B D s0 Su108 H locs → hp_mono Sa108 Su108 → W p l e ({ frames := 2, cells := 0, slots := 0, locals := 128 } : Room) s m args below meth c H locs 0 0 (MQ below (hp_Qv B D s0 (fun S' => hp_mono Si S' ∧ Q S')) args s 0 0 (fun q => B < q)) (F0 m 108 ls []) := by
      intro N
      induction N with
      | zero =>
        intro v2 Su108 H locs ls hN
        exact absurd hN (Nat.not_lt_zero _)
      | succ N ih108 =>
        intro v2 Su108 H locs ls hN hI hl hR ms108
        have h := hst v2 Su108 ms108 hI
        have hm := hp_mono.tr hm ms108
        obtain ⟨K108, hKe108⟩ : ∃ K : Int32 → hp_St → Prop, K = (fun v2' Sk => I108 v2' Sk ∧ μ108 v2' Sk < μ108 v2 Su108) := ⟨_, rfl⟩
        rw [← hKe108] at h
        have hK108 : ∀ (v2' : Int32) (Sk : hp_St) (H : Heap) (locs : List Loc) (ls : Array Slot), K108 v2' Sk → lv_has ls 3 [(0, hp_v B o), (2, .int (v2'))] → hp_S B D s0 Sk H locs → hp_mono Sa108 Sk → W p l e ({ frames := 2, cells := 0, slots := 0, locals := 128 } : Room) s m args below meth c H locs 0 0 (MQ below (hp_Qv B D s0 (fun S' => hp_mono Si S' ∧ Q S')) args s 0 0 (fun q => B < q)) (F0 m 108 ls []) := by
          intro v2' Sk H locs ls hI hl hR ms
          rw [hKe108] at hI
          exact ih108 v2' Sk H locs ls (Nat.lt_of_lt_of_le hI.2 (Nat.le_of_lt_succ hN)) hI.1 hl hR ms
        have b152 : ∀ (v2 : Int32) (S : hp_St) (H : Heap) (locs : List Loc) (ls : Array Slot), wb_X7_know_152 o a1 v2 S K108 Q → lv_has ls 3 [(0, hp_v B o), (2, .int v2)] → hp_S B D s0 S H locs → hp_mono Si S → hp_mono Sa108 S → W p l e ({ frames := 2, cells := 0, slots := 0, locals := 128 } : Room) s m args below meth c H locs 0 0 (MQ below (hp_Qv B D s0 (fun S' => hp_mono Si S' ∧ Q S')) args s 0 0 (fun q => B < q)) (F0 m 152 ls []) := by
          intro v2 S H locs ls h hl hR hm ms108
          unfold wb_X7_know_152 at h
          refine hp_iinc E hl (v2 + (1 : Int32)) 1 (lv' := [(0, hp_v B o)]) dX7_know_152 (rfl : 152 + 3 = 155) rfl (by first | rfl | (congr 1)) (by decide) rfl (fun ls hl => ?_)
          refine hp_goto E (tgt := 108) dX7_know_155 (by decide) ?_
          exact hK108 _ _ _ _ _ h (lv_sub hl [1, 0] rfl) hR ms108
        unfold wb_X7_know_108 at h
        refine hp_iload_n E hl 2 rfl 1 rfl dX7_know_108 (rfl : 108 + 1 = 109) ?_
        refine hp_aload_n E hl 0 rfl 0 rfl dX7_know_109 (rfl : 109 + 1 = 110) ?_
        refine hp_getI E hR in_X7 (hp_mono.c hm hc0) rfl 16 (Nat.le_of_ble_eq_true rfl) rfl q1277 (fun _ h => h) dX7_know_110 (rfl : 110 + 3 = 113) ?_
        refine hp_icmp_ge E dX7_know_113 (rfl : 113 + 3 = 116) (tgt := 158) (by decide) (fun hb => ?_) (fun hb => ?_)
        · have h := h.1 hb
          refine hp_aload_n E hl 0 rfl 0 rfl dX7_know_116 (rfl : 116 + 1 = 117) ?_
          refine hp_getR E hR in_X7 (hp_mono.c hm hc0) rfl 17 (Nat.le_of_ble_eq_true rfl) rfl q1278 (fun _ h => h) dX7_know_117 (rfl : 117 + 3 = 120) ?_
          refine hp_iload_n E hl 2 rfl 1 rfl dX7_know_120 (rfl : 120 + 1 = 121) ?_
          obtain ⟨hc10801, h⟩ := h
          obtain ⟨hi10802, h⟩ := h
          refine hp_iald E hR hc10801 hi10802 dX7_know_121 (rfl : 121 + 1 = 122) ?_
          refine hp_iconst E (1 : Int32) (by decide) dX7_know_122 (rfl : 122 + 1 = 123) ?_
          refine hp_icmp_ne E dX7_know_123 (rfl : 123 + 3 = 126) (tgt := 152) (by decide) (fun hb => ?_) (fun hb => ?_)
          · have h := h.1 hb
            refine hp_aload_n E hl 0 rfl 0 rfl dX7_know_126 (rfl : 126 + 1 = 127) ?_
            refine hp_getR E hR in_X7 (hp_mono.c hm hc0) rfl 44 (Nat.le_of_ble_eq_true rfl) rfl q1305 (fun _ h => h) dX7_know_127 (rfl : 127 + 3 = 130) ?_
            refine hp_iload_n E hl 2 rfl 1 rfl dX7_know_130 (rfl : 130 + 1 = 131) ?_
            obtain ⟨hc10803, h⟩ := h
            obtain ⟨hi10804, h⟩ := h
            refine hp_zald E hR hc10803 hi10804 dX7_know_131 (rfl : 131 + 1 = 132) ?_
            refine hp_if_eq E dX7_know_132 (rfl : 132 + 3 = 135) (tgt := 152) (by decide) (fun hb => ?_) (fun hb => ?_)
            · have h := h.1 hb
              exact b152 _ _ _ _ _ h hl hR hm ms108
            · have h := h.2 hb
              refine hp_aload_n E hl 0 rfl 0 rfl dX7_know_135 (rfl : 135 + 1 = 136) ?_
              refine hp_getR E hR in_X7 (hp_mono.c hm hc0) rfl 45 (Nat.le_of_ble_eq_true rfl) rfl q1306 (fun _ h => h) dX7_know_136 (rfl : 136 + 3 = 139) ?_
              refine hp_aload_n E hl 0 rfl 0 rfl dX7_know_139 (rfl : 139 + 1 = 140) ?_
              refine hp_getR E hR in_X7 (hp_mono.c hm hc0) rfl 18 (Nat.le_of_ble_eq_true rfl) rfl q1279 (fun _ h => h) dX7_know_140 (rfl : 140 + 3 = 143) ?_
              refine hp_iload_n E hl 2 rfl 1 rfl dX7_know_143 (rfl : 143 + 1 = 144) ?_
              obtain ⟨hc10805, h⟩ := h
              obtain ⟨hi10806, h⟩ := h
              refine hp_iald E hR hc10805 hi10806 dX7_know_144 (rfl : 144 + 1 = 145) ?_
              refine hp_aload_n E hl 0 rfl 0 rfl dX7_know_145 (rfl : 145 + 1 = 146) ?_
              refine hp_getR E hR in_X7 (hp_mono.c hm hc0) rfl 19 (Nat.le_of_ble_eq_true rfl) rfl q1280 (fun _ h => h) dX7_know_146 (rfl : 146 + 3 = 149) ?_
              refine hp_iload_n E hl 2 rfl 1 rfl dX7_know_149 (rfl : 149 + 1 = 150) ?_
              obtain ⟨hc10807, h⟩ := h
              obtain ⟨hi10808, h⟩ := h
              refine hp_iald E hR hc10807 hi10808 dX7_know_150 (rfl : 150 + 1 = 151) ?_
              obtain ⟨hc10809, h⟩ := h
              obtain ⟨hi10810, h⟩ := h
              refine hx_iast E hR hc10809 hi10810 dX7_know_151 (rfl : 151 + 1 = 152) (fun S10811 H locs e10813 hm10812 hR => ?_)
              have h := h S10811 e10813
              have hm := hp_mono.tr hm hm10812
              have ms108 := hp_mono.tr ms108 hm10812
              exact b152 _ _ _ _ _ h hl hR hm ms108
          · have h := h.2 hb
            exact b152 _ _ _ _ _ h hl hR hm ms108
        · have h := h.2 hb
          exact hp_vret E hR ⟨hm, h⟩ (Nat.le_of_ble_eq_true rfl) (Nat.le_of_ble_eq_true rfl) dX7_know_158
    exact key108 (μ108 v2 Sa108 + 1) v2 _ H locs ls (Nat.lt_succ_self _) hI hl hR hp_mono.rf
  have b87 : ∀ (v2 : Int32) (S : hp_St) (H : Heap) (locs : List Loc) (ls : Array Slot), wl_X7_know_87 o a1 v2 S Q → lv_has ls 3 [(0, hp_v B o), (2, .int v2)] → hp_S B D s0 S H locs → hp_mono Si S → W p l e ({ frames := 2, cells := 0, slots := 0, locals := 128 } : Room) s m args below meth c H locs 0 0 (MQ below (hp_Qv B D s0 (fun S' => hp_mono Si S' ∧ Q S')) args s 0 0 (fun q => B < q)) (F0 m 87 ls []) := by
    intro v2 S H locs ls h hl hR hm
    obtain ⟨I87, μ87, hI, hst⟩ := h
    obtain ⟨Sa87, eSa87⟩ : ∃ x, x = S := ⟨_, rfl⟩
    subst eSa87
    have key87 : ∀ (N : Nat) (v2 : Int32) (Su87 : hp_St) (H : Heap) (locs : List Loc) (ls : Array Slot), μ87 v2 Su87 < N → I87 v2 Su87 → lv_has ls 3 [(0, hp_v B o), (2, .int v2)] → hp_S B D s0 Su87 H locs → hp_mono Sa87 Su87 → W p l e ({ frames := 2, cells := 0, slots := 0, locals := 128 } : Room) s m args below meth c H locs 0 0 (MQ below (hp_Qv B D s0 (fun S' => hp_mono Si S' ∧ Q S')) args s 0 0 (fun q => B < q)) (F0 m 87 ls []) := by
      intro N
      induction N with
      | zero =>
        intro v2 Su87 H locs ls hN
        exact absurd hN (Nat.not_lt_zero _)
      | succ N ih87 =>
        intro v2 Su87 H locs ls hN hI hl hR ms87
        have h := hst v2 Su87 ms87 hI
        have hm := hp_mono.tr hm ms87
        obtain ⟨K87, hKe87⟩ : ∃ K : Int32 → hp_St → Prop, K = (fun v2' Sk => I87 v2' Sk ∧ μ87 v2' Sk < μ87 v2 Su87) := ⟨_, rfl⟩
        rw [← hKe87] at h
        have hK87 : ∀ (v2' : Int32) (Sk : hp_St) (H : Heap) (locs : List Loc) (ls : Array Slot), K87 v2' Sk → lv_has ls 3 [(0, hp_v B o), (2, .int (v2'))] → hp_S B D s0 Sk H locs → hp_mono Sa87 Sk → W p l e ({ frames := 2, cells := 0, slots := 0, locals := 128 } : Room) s m args below meth c H locs 0 0 (MQ below (hp_Qv B D s0 (fun S' => hp_mono Si S' ∧ Q S')) args s 0 0 (fun q => B < q)) (F0 m 87 ls []) := by
          intro v2' Sk H locs ls hI hl hR ms
          rw [hKe87] at hI
          exact ih87 v2' Sk H locs ls (Nat.lt_of_lt_of_le hI.2 (Nat.le_of_lt_succ hN)) hI.1 hl hR ms
        unfold wb_X7_know_87 at h
        refine hp_iload_n E hl 2 rfl 1 rfl dX7_know_87 (rfl : 87 + 1 = 88) ?_
        refine hp_bipush E (12 : Int32) (by decide) dX7_know_88 (rfl : 88 + 2 = 90) ?_
        refine hp_icmp_ge E dX7_know_90 (rfl : 90 + 3 = 93) (tgt := 106) (by decide) (fun hb => ?_) (fun hb => ?_)
        · have h := h.1 hb
          refine hp_aload_n E hl 0 rfl 0 rfl dX7_know_93 (rfl : 93 + 1 = 94) ?_
          refine hp_getR E hR in_X7 (hp_mono.c hm hc0) rfl 45 (Nat.le_of_ble_eq_true rfl) rfl q1306 (fun _ h => h) dX7_know_94 (rfl : 94 + 3 = 97) ?_
          refine hp_iload_n E hl 2 rfl 1 rfl dX7_know_97 (rfl : 97 + 1 = 98) ?_
          refine hp_iconst E (-1 : Int32) (by decide) dX7_know_98 (rfl : 98 + 1 = 99) ?_
          obtain ⟨hc8701, h⟩ := h
          obtain ⟨hi8702, h⟩ := h
          refine hx_iast E hR hc8701 hi8702 dX7_know_99 (rfl : 99 + 1 = 100) (fun S8703 H locs e8705 hm8704 hR => ?_)
          have h := h S8703 e8705
          have hm := hp_mono.tr hm hm8704
          have ms87 := hp_mono.tr ms87 hm8704
          refine hp_iinc E hl (v2 + (1 : Int32)) 1 (lv' := [(0, hp_v B o)]) dX7_know_100 (rfl : 100 + 3 = 103) rfl (by first | rfl | (congr 1)) (by decide) rfl (fun ls hl => ?_)
          refine hp_goto E (tgt := 87) dX7_know_103 (by decide) ?_
          exact hK87 _ _ _ _ _ h (lv_sub hl [1, 0] rfl) hR ms87
        · have h := h.2 hb
          refine hp_iconst E (0 : Int32) (by decide) dX7_know_106 (rfl : 106 + 1 = 107) ?_
          refine hp_istore_n E hl 2 rfl (lv' := [(0, hp_v B o)]) dX7_know_107 (rfl : 107 + 1 = 108) (by decide) rfl (fun ls hl => ?_)
          exact b108 _ _ _ _ _ h (lv_sub hl [1, 0] rfl) hR hm
    exact key87 (μ87 v2 Sa87 + 1) v2 _ H locs ls (Nat.lt_succ_self _) hI hl hR hp_mono.rf
  have b44 : ∀ (v2 : Int32) (S : hp_St) (H : Heap) (locs : List Loc) (ls : Array Slot), wl_X7_know_44 o a1 v2 S Q → lv_has ls 3 [(0, hp_v B o), (2, .int v2)] → hp_S B D s0 S H locs → hp_mono Si S → W p l e ({ frames := 2, cells := 0, slots := 0, locals := 128 } : Room) s m args below meth c H locs 0 0 (MQ below (hp_Qv B D s0 (fun S' => hp_mono Si S' ∧ Q S')) args s 0 0 (fun q => B < q)) (F0 m 44 ls []) := by
    intro v2 S H locs ls h hl hR hm
    obtain ⟨I44, μ44, hI, hst⟩ := h
    obtain ⟨Sa44, eSa44⟩ : ∃ x, x = S := ⟨_, rfl⟩
    subst eSa44
    have key44 : ∀ (N : Nat) (v2 : Int32) (Su44 : hp_St) (H : Heap) (locs : List Loc) (ls : Array Slot), μ44 v2 Su44 < N → I44 v2 Su44 → lv_has ls 3 [(0, hp_v B o), (2, .int v2)] → hp_S B D s0 Su44 H locs → hp_mono Sa44 Su44 → W p l e ({ frames := 2, cells := 0, slots := 0, locals := 128 } : Room) s m args below meth c H locs 0 0 (MQ below (hp_Qv B D s0 (fun S' => hp_mono Si S' ∧ Q S')) args s 0 0 (fun q => B < q)) (F0 m 44 ls []) := by
      intro N
      induction N with
      | zero =>
        intro v2 Su44 H locs ls hN
        exact absurd hN (Nat.not_lt_zero _)
      | succ N ih44 =>
        intro v2 Su44 H locs ls hN hI hl hR ms44
        have h := hst v2 Su44 ms44 hI
        have hm := hp_mono.tr hm ms44
        obtain ⟨K44, hKe44⟩ : ∃ K : Int32 → hp_St → Prop, K = (fun v2' Sk => I44 v2' Sk ∧ μ44 v2' Sk < μ44 v2 Su44) := ⟨_, rfl⟩
        rw [← hKe44] at h
        have hK44 : ∀ (v2' : Int32) (Sk : hp_St) (H : Heap) (locs : List Loc) (ls : Array Slot), K44 v2' Sk → lv_has ls 3 [(0, hp_v B o), (2, .int (v2'))] → hp_S B D s0 Sk H locs → hp_mono Sa44 Sk → W p l e ({ frames := 2, cells := 0, slots := 0, locals := 128 } : Room) s m args below meth c H locs 0 0 (MQ below (hp_Qv B D s0 (fun S' => hp_mono Si S' ∧ Q S')) args s 0 0 (fun q => B < q)) (F0 m 44 ls []) := by
          intro v2' Sk H locs ls hI hl hR ms
          rw [hKe44] at hI
          exact ih44 v2' Sk H locs ls (Nat.lt_of_lt_of_le hI.2 (Nat.le_of_lt_succ hN)) hI.1 hl hR ms
        have b79 : ∀ (v2 : Int32) (S : hp_St) (H : Heap) (locs : List Loc) (ls : Array Slot), wb_X7_know_79 o a1 v2 S K44 Q → lv_has ls 3 [(0, hp_v B o), (2, .int v2)] → hp_S B D s0 S H locs → hp_mono Si S → hp_mono Sa44 S → W p l e ({ frames := 2, cells := 0, slots := 0, locals := 128 } : Room) s m args below meth c H locs 0 0 (MQ below (hp_Qv B D s0 (fun S' => hp_mono Si S' ∧ Q S')) args s 0 0 (fun q => B < q)) (F0 m 79 ls []) := by
          intro v2 S H locs ls h hl hR hm ms44
          unfold wb_X7_know_79 at h
          refine hp_iinc E hl (v2 + (-1 : Int32)) 1 (lv' := [(0, hp_v B o)]) dX7_know_79 (rfl : 79 + 3 = 82) rfl (by first | rfl | (congr 1)) (by decide) rfl (fun ls hl => ?_)
          refine hp_goto E (tgt := 44) dX7_know_82 (by decide) ?_
          exact hK44 _ _ _ _ _ h (lv_sub hl [1, 0] rfl) hR ms44
        unfold wb_X7_know_44 at h
        refine hp_iload_n E hl 2 rfl 1 rfl dX7_know_44 (rfl : 44 + 1 = 45) ?_
        refine hp_if_lt E dX7_know_45 (rfl : 45 + 3 = 48) (tgt := 85) (by decide) (fun hb => ?_) (fun hb => ?_)
        · have h := h.1 hb
          refine hp_iconst E (0 : Int32) (by decide) dX7_know_85 (rfl : 85 + 1 = 86) ?_
          refine hp_istore_n E hl 2 rfl (lv' := [(0, hp_v B o)]) dX7_know_86 (rfl : 86 + 1 = 87) (by decide) rfl (fun ls hl => ?_)
          exact b87 _ _ _ _ _ h (lv_sub hl [1, 0] rfl) hR hm
        · have h := h.2 hb
          refine hp_aload_n E hl 0 rfl 0 rfl dX7_know_48 (rfl : 48 + 1 = 49) ?_
          refine hp_getR E hR in_X7 (hp_mono.c hm hc0) rfl 17 (Nat.le_of_ble_eq_true rfl) rfl q1278 (fun _ h => h) dX7_know_49 (rfl : 49 + 3 = 52) ?_
          refine hp_iload_n E hl 2 rfl 1 rfl dX7_know_52 (rfl : 52 + 1 = 53) ?_
          obtain ⟨hc4401, h⟩ := h
          obtain ⟨hi4402, h⟩ := h
          refine hp_iald E hR hc4401 hi4402 dX7_know_53 (rfl : 53 + 1 = 54) ?_
          refine hp_iconst E (2 : Int32) (by decide) dX7_know_54 (rfl : 54 + 1 = 55) ?_
          refine hp_icmp_ne E dX7_know_55 (rfl : 55 + 3 = 58) (tgt := 79) (by decide) (fun hb => ?_) (fun hb => ?_)
          · have h := h.1 hb
            refine hp_aload_n E hl 0 rfl 0 rfl dX7_know_58 (rfl : 58 + 1 = 59) ?_
            refine hp_getR E hR in_X7 (hp_mono.c hm hc0) rfl 44 (Nat.le_of_ble_eq_true rfl) rfl q1305 (fun _ h => h) dX7_know_59 (rfl : 59 + 3 = 62) ?_
            refine hp_iload_n E hl 2 rfl 1 rfl dX7_know_62 (rfl : 62 + 1 = 63) ?_
            obtain ⟨hc4403, h⟩ := h
            obtain ⟨hi4404, h⟩ := h
            refine hp_zald E hR hc4403 hi4404 dX7_know_63 (rfl : 63 + 1 = 64) ?_
            refine hp_if_eq E dX7_know_64 (rfl : 64 + 3 = 67) (tgt := 79) (by decide) (fun hb => ?_) (fun hb => ?_)
            · have h := h.1 hb
              exact b79 _ _ _ _ _ h hl hR hm ms44
            · have h := h.2 hb
              refine hp_aload_n E hl 0 rfl 0 rfl dX7_know_67 (rfl : 67 + 1 = 68) ?_
              refine hp_getR E hR in_X7 (hp_mono.c hm hc0) rfl 44 (Nat.le_of_ble_eq_true rfl) rfl q1305 (fun _ h => h) dX7_know_68 (rfl : 68 + 3 = 71) ?_
              refine hp_aload_n E hl 0 rfl 0 rfl dX7_know_71 (rfl : 71 + 1 = 72) ?_
              refine hp_getR E hR in_X7 (hp_mono.c hm hc0) rfl 18 (Nat.le_of_ble_eq_true rfl) rfl q1279 (fun _ h => h) dX7_know_72 (rfl : 72 + 3 = 75) ?_
              refine hp_iload_n E hl 2 rfl 1 rfl dX7_know_75 (rfl : 75 + 1 = 76) ?_
              obtain ⟨hc4405, h⟩ := h
              obtain ⟨hi4406, h⟩ := h
              refine hp_iald E hR hc4405 hi4406 dX7_know_76 (rfl : 76 + 1 = 77) ?_
              refine hp_iconst E (0 : Int32) (by decide) dX7_know_77 (rfl : 77 + 1 = 78) ?_
              obtain ⟨hi4407, h⟩ := h
              refine hx_zast E hR hc4403 hi4407 (Or.inl rfl) dX7_know_78 (rfl : 78 + 1 = 79) (fun S4408 H locs e4410 hm4409 hR => ?_)
              have h := h S4408 e4410
              have hm := hp_mono.tr hm hm4409
              have ms44 := hp_mono.tr ms44 hm4409
              exact b79 _ _ _ _ _ h hl hR hm ms44
          · have h := h.2 hb
            exact b79 _ _ _ _ _ h hl hR hm ms44
    exact key44 (μ44 v2 Sa44 + 1) v2 _ H locs ls (Nat.lt_succ_self _) hI hl hR hp_mono.rf
  have b2 : ∀ (v2 : Int32) (S : hp_St) (H : Heap) (locs : List Loc) (ls : Array Slot), wl_X7_know_2 o a1 v2 S Q → lv_has ls 3 [(0, hp_v B o), (1, .int a1), (2, .int v2)] → hp_S B D s0 S H locs → hp_mono Si S → W p l e ({ frames := 2, cells := 0, slots := 0, locals := 128 } : Room) s m args below meth c H locs 0 0 (MQ below (hp_Qv B D s0 (fun S' => hp_mono Si S' ∧ Q S')) args s 0 0 (fun q => B < q)) (F0 m 2 ls []) := by
    intro v2 S H locs ls h hl hR hm
    obtain ⟨I2, μ2, hI, hst⟩ := h
    obtain ⟨Sa2, eSa2⟩ : ∃ x, x = S := ⟨_, rfl⟩
    subst eSa2
    have key2 : ∀ (N : Nat) (v2 : Int32) (Su2 : hp_St) (H : Heap) (locs : List Loc) (ls : Array Slot), μ2 v2 Su2 < N → I2 v2 Su2 → lv_has ls 3 [(0, hp_v B o), (1, .int a1), (2, .int v2)] → hp_S B D s0 Su2 H locs → hp_mono Sa2 Su2 → W p l e ({ frames := 2, cells := 0, slots := 0, locals := 128 } : Room) s m args below meth c H locs 0 0 (MQ below (hp_Qv B D s0 (fun S' => hp_mono Si S' ∧ Q S')) args s 0 0 (fun q => B < q)) (F0 m 2 ls []) := by
      intro N
      induction N with
      | zero =>
        intro v2 Su2 H locs ls hN
        exact absurd hN (Nat.not_lt_zero _)
      | succ N ih2 =>
        intro v2 Su2 H locs ls hN hI hl hR ms2
        have h := hst v2 Su2 ms2 hI
        have hm := hp_mono.tr hm ms2
        obtain ⟨K2, hKe2⟩ : ∃ K : Int32 → hp_St → Prop, K = (fun v2' Sk => I2 v2' Sk ∧ μ2 v2' Sk < μ2 v2 Su2) := ⟨_, rfl⟩
        rw [← hKe2] at h
        have hK2 : ∀ (v2' : Int32) (Sk : hp_St) (H : Heap) (locs : List Loc) (ls : Array Slot), K2 v2' Sk → lv_has ls 3 [(0, hp_v B o), (1, .int a1), (2, .int (v2'))] → hp_S B D s0 Sk H locs → hp_mono Sa2 Sk → W p l e ({ frames := 2, cells := 0, slots := 0, locals := 128 } : Room) s m args below meth c H locs 0 0 (MQ below (hp_Qv B D s0 (fun S' => hp_mono Si S' ∧ Q S')) args s 0 0 (fun q => B < q)) (F0 m 2 ls []) := by
          intro v2' Sk H locs ls hI hl hR ms
          rw [hKe2] at hI
          exact ih2 v2' Sk H locs ls (Nat.lt_of_lt_of_le hI.2 (Nat.le_of_lt_succ hN)) hI.1 hl hR ms
        have b30 : ∀ (v2 : Int32) (t0 : Nat) (t1 : Int32) (t2 : Int32) (S : hp_St) (H : Heap) (locs : List Loc) (ls : Array Slot), wb_X7_know_30 o a1 v2 t0 t1 t2 S K2 Q → lv_has ls 3 [(0, hp_v B o), (1, .int a1), (2, .int v2)] → hp_S B D s0 S H locs → hp_mono Si S → hp_mono Sa2 S → W p l e ({ frames := 2, cells := 0, slots := 0, locals := 128 } : Room) s m args below meth c H locs 0 0 (MQ below (hp_Qv B D s0 (fun S' => hp_mono Si S' ∧ Q S')) args s 0 0 (fun q => B < q)) (F0 m 30 ls [.int t2, .int t1, hp_v B t0]) := by
          intro v2 t0 t1 t2 S H locs ls h hl hR hm ms2
          unfold wb_X7_know_30 at h
          obtain ⟨hc3001, h⟩ := h
          obtain ⟨hi3002, h⟩ := h
          obtain ⟨hz3003, h⟩ := h
          refine hx_zast E hR hc3001 hi3002 hz3003 dX7_know_30 (rfl : 30 + 1 = 31) (fun S3004 H locs e3006 hm3005 hR => ?_)
          have h := h S3004 e3006
          have hm := hp_mono.tr hm hm3005
          have ms2 := hp_mono.tr ms2 hm3005
          refine hp_iinc E hl (v2 + (1 : Int32)) 2 (lv' := [(0, hp_v B o), (1, .int a1)]) dX7_know_31 (rfl : 31 + 3 = 34) rfl (by first | rfl | (congr 1)) (by decide) rfl (fun ls hl => ?_)
          refine hp_goto E (tgt := 2) dX7_know_34 (by decide) ?_
          exact hK2 _ _ _ _ _ h (lv_sub hl [1, 2, 0] rfl) hR ms2
        unfold wb_X7_know_2 at h
        refine hp_iload_n E hl 2 rfl 2 rfl dX7_know_2 (rfl : 2 + 1 = 3) ?_
        refine hp_aload_n E hl 0 rfl 0 rfl dX7_know_3 (rfl : 3 + 1 = 4) ?_
        refine hp_getI E hR in_X7 (hp_mono.c hm hc0) rfl 16 (Nat.le_of_ble_eq_true rfl) rfl q1277 (fun _ h => h) dX7_know_4 (rfl : 4 + 3 = 7) ?_
        refine hp_icmp_ge E dX7_know_7 (rfl : 7 + 3 = 10) (tgt := 37) (by decide) (fun hb => ?_) (fun hb => ?_)
        · have h := h.1 hb
          refine hp_aload_n E hl 0 rfl 0 rfl dX7_know_10 (rfl : 10 + 1 = 11) ?_
          refine hp_getR E hR in_X7 (hp_mono.c hm hc0) rfl 44 (Nat.le_of_ble_eq_true rfl) rfl q1305 (fun _ h => h) dX7_know_11 (rfl : 11 + 3 = 14) ?_
          refine hp_iload_n E hl 2 rfl 2 rfl dX7_know_14 (rfl : 14 + 1 = 15) ?_
          refine hp_aload_n E hl 0 rfl 0 rfl dX7_know_15 (rfl : 15 + 1 = 16) ?_
          refine hp_getR E hR in_X7 (hp_mono.c hm hc0) rfl 20 (Nat.le_of_ble_eq_true rfl) rfl q1281 (fun _ h => h) dX7_know_16 (rfl : 16 + 3 = 19) ?_
          refine hp_iload_n E hl 2 rfl 2 rfl dX7_know_19 (rfl : 19 + 1 = 20) ?_
          obtain ⟨hc201, h⟩ := h
          obtain ⟨hi202, h⟩ := h
          refine hp_iald E hR hc201 hi202 dX7_know_20 (rfl : 20 + 1 = 21) ?_
          refine hp_iload_n E hl 1 rfl 1 rfl dX7_know_21 (rfl : 21 + 1 = 22) ?_
          refine hp_icmp_gt E dX7_know_22 (rfl : 22 + 3 = 25) (tgt := 29) (by decide) (fun hb => ?_) (fun hb => ?_)
          · have h := h.1 hb
            refine hp_iconst E (1 : Int32) (by decide) dX7_know_25 (rfl : 25 + 1 = 26) ?_
            refine hp_goto E (tgt := 30) dX7_know_26 (by decide) ?_
            exact b30 _ _ _ _ _ _ _ _ h hl hR hm ms2
          · have h := h.2 hb
            refine hp_iconst E (0 : Int32) (by decide) dX7_know_29 (rfl : 29 + 1 = 30) ?_
            exact b30 _ _ _ _ _ _ _ _ h hl hR hm ms2
        · have h := h.2 hb
          refine hp_aload_n E hl 0 rfl 0 rfl dX7_know_37 (rfl : 37 + 1 = 38) ?_
          refine hp_getI E hR in_X7 (hp_mono.c hm hc0) rfl 16 (Nat.le_of_ble_eq_true rfl) rfl q1277 (fun _ h => h) dX7_know_38 (rfl : 38 + 3 = 41) ?_
          refine hp_iconst E (1 : Int32) (by decide) dX7_know_41 (rfl : 41 + 1 = 42) ?_
          refine hp_isub E dX7_know_42 (rfl : 42 + 1 = 43) ?_
          refine hp_istore_n E hl 2 rfl (lv' := [(0, hp_v B o), (1, .int a1)]) dX7_know_43 (rfl : 43 + 1 = 44) (by decide) rfl (fun ls hl => ?_)
          exact b44 _ _ _ _ _ h (lv_sub hl [1, 0] rfl) hR hm
    exact key2 (μ2 v2 Sa2 + 1) v2 _ H locs ls (Nat.lt_succ_self _) hI hl hR hp_mono.rf
  unfold wp_X7_know at h
  refine hp_iconst E (0 : Int32) (by decide) dX7_know_0 (rfl : 0 + 1 = 1) ?_
  refine hp_istore_n E hl 2 rfl (lv' := [(0, hp_v B o), (1, .int a1)]) dX7_know_1 (rfl : 1 + 1 = 2) (by decide) rfl (fun ls hl => ?_)
  exact b2 _ _ _ _ _ h (lv_sub hl [1, 2, 0] rfl) hR hm
def wb_X7_dead_20 (o : Nat) (a1 : Int32) (a2 : Int32) (S : hp_St) (Q : Int32 → hp_St → Prop) : Prop := Q (-2 : Int32) S
def wp_X7_dead (o : Nat) (a1 : Int32) (a2 : Int32) (S : hp_St) (Q : Int32 → hp_St → Prop) : Prop := (∀ S1, S1 = st_pI S o 2 (0 : Int32) → wp_X7_isLife o a1 S1 (fun z4 => (((z4 = 0) → wb_X7_dead_20 o a1 a2 S1 Q) ∧ ((¬ (z4 = 0)) → wp_X7_isHalf a2 S1 (fun z5 => (((z5 = 0) → wb_X7_dead_20 o a1 a2 S1 Q) ∧ ((¬ (z5 = 0)) → wp_X7_know o a2 S1 (fun S6 => hp_mono S1 S6 → (st_C S6 (st_R S6 o 45) = 50) ∧ (vp_in a1 (st_L S6 (st_R S6 o 45))) ∧ Q (st_I S6 (st_R S6 o 45) a1.toNatClampNeg) S6))))))))
theorem nf_X7_dead : hp_nf yX7_dead 2 = true := by decide +kernel
set_option maxHeartbeats 4000000 in
theorem m_X7_dead {l : Launch} {B : Nat} {D : va_G} {s0 : State} {b0 : Nat} (G : hp_G l B D s0 b0) (o : Nat) (a1 : Int32) (a2 : Int32) (Si : hp_St) (Q : Int32 → hp_St → Prop) (hc0 : st_C Si o = 7) (h : wp_X7_dead o a1 a2 Si Q) : hp_M l B D s0 yX7_dead cX7_dead 3 (some .int) 3 192 0 0 [hp_v B o, .int a1, .int a2] Si (hp_Qi B D s0 (fun r S' => hp_mono Si S' ∧ Q r S')) := by
  refine hp_start G (by decide +kernel) rfl rfl (lv := [(0, hp_v B o), (1, .int a1), (2, .int a2)]) (by simp [lg_sl, hp_vc, hp_ci, hp_cj]) (by simp [lv_args, hp_vc, hp_ci, hp_cj]) ?_
  intro p e s m args below meth c E ls hl hR
  have hm : hp_mono Si Si := hp_mono.rf
  generalize hH : s.heap = H at hR ⊢
  generalize hLo : ([] : List Loc) = locs at hR ⊢
  have b20 : ∀ (S : hp_St) (H : Heap) (locs : List Loc) (ls : Array Slot), wb_X7_dead_20 o a1 a2 S Q → lv_has ls 3 [] → hp_S B D s0 S H locs → hp_mono Si S → W p l e ({ frames := 3, cells := 0, slots := 0, locals := 192 } : Room) s m args below meth c H locs 0 0 (MQ below (hp_Qi B D s0 (fun r S' => hp_mono Si S' ∧ Q r S')) args s 0 0 (fun q => B < q)) (F0 m 20 ls []) := by
    intro S H locs ls h hl hR hm
    unfold wb_X7_dead_20 at h
    refine hp_bipush E (-2 : Int32) (by decide) dX7_dead_20 (rfl : 20 + 2 = 22) ?_
    exact hp_iret E hR ⟨hm, h⟩ (Nat.le_of_ble_eq_true rfl) (Nat.le_of_ble_eq_true rfl) dX7_dead_22
  unfold wp_X7_dead at h
  refine hp_aload_n E hl 0 rfl 0 rfl dX7_dead_0 (rfl : 0 + 1 = 1) ?_
  refine hp_iconst E (0 : Int32) (by decide) dX7_dead_1 (rfl : 1 + 1 = 2) ?_
  refine hx_putI E hR in_X7 tyX7 tyX7_ok nmX7 hc0 rfl 2 (Nat.le_of_ble_eq_true rfl) rfl q1263 (fun _ h => h) (Or.inl rfl) (Or.inl rfl) dX7_dead_2 (rfl : 2 + 3 = 5) (fun S1 H locs e3 hm2 hR => ?_)
  have h := h S1 e3
  have hm := hp_mono.tr hm hm2
  refine hp_aload_n E hl 0 rfl 0 rfl dX7_dead_5 (rfl : 5 + 1 = 6) ?_
  refine hp_iload_n E hl 1 rfl 1 rfl dX7_dead_6 (rfl : 6 + 1 = 7) ?_
  refine hp_fi (hp_rV E hR hl (m_X7_isLife G _ _ _ _ (hp_mono.c hm hc0) h) (hp_mono.c hm hc0) (ci := 6) rfl rfl q1515 q1517 qs44 q82 q1518 nf_X7_isLife ⟨Nat.le_of_ble_eq_true rfl, Nat.le_of_ble_eq_true rfl⟩ (rest := []) rfl (Nat.le_of_ble_eq_true rfl) dX7_dead_7 ⟨Nat.le_of_ble_eq_true rfl, Nat.le_of_ble_eq_true rfl⟩) hR (rfl : 7 + 3 = 10) (fun z4 Sx H locs hq hR => ?_)
  obtain ⟨hSx, h⟩ := hq
  rw [hSx] at hR
  refine hp_if_eq E dX7_dead_10 (rfl : 10 + 3 = 13) (tgt := 20) (by decide) (fun hb => ?_) (fun hb => ?_)
  · have h := h.1 hb
    exact b20 _ _ _ _ h (lv_sub hl [] rfl) hR hm
  · have h := h.2 hb
    refine hp_iload_n E hl 2 rfl 2 rfl dX7_dead_13 (rfl : 13 + 1 = 14) ?_
    refine hp_fi (hp_rS E hR hl (m_X7_isHalf G _ _ _ h) q1562 q1563 q82 q1564 nf_X7_isHalf ⟨Nat.le_of_ble_eq_true rfl, Nat.le_of_ble_eq_true rfl⟩ (rest := []) rfl (Nat.le_of_ble_eq_true rfl) dX7_dead_14 ⟨Nat.le_of_ble_eq_true rfl, Nat.le_of_ble_eq_true rfl⟩) hR (rfl : 14 + 3 = 17) (fun z5 Sx H locs hq hR => ?_)
    obtain ⟨hSx, h⟩ := hq
    rw [hSx] at hR
    refine hp_if_ne E dX7_dead_17 (rfl : 17 + 3 = 20) (tgt := 23) (by decide) (fun hb => ?_) (fun hb => ?_)
    · have h := h.1 hb
      exact b20 _ _ _ _ h (lv_sub hl [] rfl) hR hm
    · have h := h.2 hb
      refine hp_aload_n E hl 0 rfl 0 rfl dX7_dead_23 (rfl : 23 + 1 = 24) ?_
      refine hp_iload_n E hl 2 rfl 2 rfl dX7_dead_24 (rfl : 24 + 1 = 25) ?_
      refine hp_fv (hp_rV E hR hl (m_X7_know G _ _ _ _ (hp_mono.c hm hc0) h) (hp_mono.c hm hc0) (ci := 6) rfl rfl q1581 q1583 qs53 q82 q1584 nf_X7_know ⟨Nat.le_of_ble_eq_true rfl, Nat.le_of_ble_eq_true rfl⟩ (rest := []) rfl (Nat.le_of_ble_eq_true rfl) dX7_dead_25 ⟨Nat.le_of_ble_eq_true rfl, Nat.le_of_ble_eq_true rfl⟩) hR (rfl : 25 + 3 = 28) (fun S6 H locs hq hR => ?_)
      obtain ⟨hm7, h⟩ := hq
      have h := h hm7
      have hm := hp_mono.tr hm hm7
      refine hp_aload_n E hl 0 rfl 0 rfl dX7_dead_28 (rfl : 28 + 1 = 29) ?_
      refine hp_getR E hR in_X7 (hp_mono.c hm hc0) rfl 45 (Nat.le_of_ble_eq_true rfl) rfl q1306 (fun _ h => h) dX7_dead_29 (rfl : 29 + 3 = 32) ?_
      refine hp_iload_n E hl 1 rfl 1 rfl dX7_dead_32 (rfl : 32 + 1 = 33) ?_
      obtain ⟨hc8, h⟩ := h
      obtain ⟨hi9, h⟩ := h
      refine hp_iald E hR hc8 hi9 dX7_dead_33 (rfl : 33 + 1 = 34) ?_
      exact hp_iret E hR ⟨hm, h⟩ (Nat.le_of_ble_eq_true rfl) (Nat.le_of_ble_eq_true rfl) dX7_dead_34
def wb_X7_isFalse_52 (o : Nat) (a1 : Int32) (t0 : Int32) (S : hp_St) (Q : Int32 → Prop) : Prop := (t0 = 0 ∨ t0 = 1) ∧ Q t0
def wb_X7_isFalse_47 (o : Nat) (a1 : Int32) (S : hp_St) (Q : Int32 → Prop) : Prop := wb_X7_isFalse_52 o a1 (1 : Int32) S Q
def wb_X7_isFalse_51 (o : Nat) (a1 : Int32) (S : hp_St) (Q : Int32 → Prop) : Prop := wb_X7_isFalse_52 o a1 (0 : Int32) S Q
def wp_X7_isFalse (o : Nat) (a1 : Int32) (S : hp_St) (Q : Int32 → Prop) : Prop := (st_C S (st_R S o 18) = 50) ∧ (vp_in a1 (st_L S (st_R S o 18))) ∧ (st_C S (st_R S o 19) = 50) ∧ (vp_in a1 (st_L S (st_R S o 19))) ∧ (st_C S (st_R S o 5) = 50) ∧ (vp_in (st_I S (st_R S o 18) a1.toNatClampNeg) (st_L S (st_R S o 5))) ∧ ((((st_I S (st_R S o 19) a1.toNatClampNeg) < (st_I S (st_R S o 5) (st_I S (st_R S o 18) a1.toNatClampNeg).toNatClampNeg)) → wb_X7_isFalse_47 o a1 S Q) ∧ ((¬ ((st_I S (st_R S o 19) a1.toNatClampNeg) < (st_I S (st_R S o 5) (st_I S (st_R S o 18) a1.toNatClampNeg).toNatClampNeg))) → (st_C S (st_R S o 45) = 50) ∧ (vp_in (st_I S (st_R S o 18) a1.toNatClampNeg) (st_L S (st_R S o 45))) ∧ ((((st_I S (st_R S o 45) (st_I S (st_R S o 18) a1.toNatClampNeg).toNatClampNeg) = (-1 : Int32)) → wb_X7_isFalse_51 o a1 S Q) ∧ ((¬ ((st_I S (st_R S o 45) (st_I S (st_R S o 18) a1.toNatClampNeg).toNatClampNeg) = (-1 : Int32))) → (vp_in a1 (st_L S (st_R S o 19))) ∧ (vp_in (st_I S (st_R S o 18) a1.toNatClampNeg) (st_L S (st_R S o 45))) ∧ ((((st_I S (st_R S o 19) a1.toNatClampNeg) ≤ (st_I S (st_R S o 45) (st_I S (st_R S o 18) a1.toNatClampNeg).toNatClampNeg)) → wb_X7_isFalse_51 o a1 S Q) ∧ ((¬ ((st_I S (st_R S o 19) a1.toNatClampNeg) ≤ (st_I S (st_R S o 45) (st_I S (st_R S o 18) a1.toNatClampNeg).toNatClampNeg))) → wb_X7_isFalse_47 o a1 S Q))))))
theorem nf_X7_isFalse : hp_nf yX7_isFalse 1 = true := by decide +kernel
set_option maxHeartbeats 4000000 in
theorem m_X7_isFalse {l : Launch} {B : Nat} {D : va_G} {s0 : State} {b0 : Nat} (G : hp_G l B D s0 b0) (o : Nat) (a1 : Int32) (Si : hp_St) (Q : Int32 → Prop) (hc0 : st_C Si o = 7) (h : wp_X7_isFalse o a1 Si Q) : hp_M l B D s0 yX7_isFalse cX7_isFalse 3 (some .boolean) 2 128 0 0 [hp_v B o, .int a1] Si (hp_Qi B D s0 (fun r S' => S' = Si ∧ Q r)) := by
  refine hp_start G (by decide +kernel) rfl rfl (lv := [(0, hp_v B o), (1, .int a1)]) (by simp [lg_sl, hp_vc, hp_ci, hp_cj]) (by simp [lv_args, hp_vc, hp_ci, hp_cj]) ?_
  intro p e s m args below meth c E ls hl hR
  generalize hH : s.heap = H at hR ⊢
  generalize hLo : ([] : List Loc) = locs at hR ⊢
  have b52 : ∀ (t0 : Int32) (H : Heap) (locs : List Loc) (ls : Array Slot), wb_X7_isFalse_52 o a1 t0 Si Q → lv_has ls 3 [] → hp_S B D s0 Si H locs → W p l e ({ frames := 2, cells := 0, slots := 0, locals := 128 } : Room) s m args below meth c H locs 0 0 (MQ below (hp_Qi B D s0 (fun r S' => S' = Si ∧ Q r)) args s 0 0 (fun q => B < q)) (F0 m 52 ls [.int t0]) := by
    intro t0 H locs ls h hl hR
    unfold wb_X7_isFalse_52 at h
    obtain ⟨hz5201, h⟩ := h
    exact hp_zret E hR hz5201 ⟨rfl, h⟩ (Nat.le_of_ble_eq_true rfl) (Nat.le_of_ble_eq_true rfl) dX7_isFalse_52
  have b47 : ∀ (H : Heap) (locs : List Loc) (ls : Array Slot), wb_X7_isFalse_47 o a1 Si Q → lv_has ls 3 [] → hp_S B D s0 Si H locs → W p l e ({ frames := 2, cells := 0, slots := 0, locals := 128 } : Room) s m args below meth c H locs 0 0 (MQ below (hp_Qi B D s0 (fun r S' => S' = Si ∧ Q r)) args s 0 0 (fun q => B < q)) (F0 m 47 ls []) := by
    intro  H locs ls h hl hR
    unfold wb_X7_isFalse_47 at h
    refine hp_iconst E (1 : Int32) (by decide) dX7_isFalse_47 (rfl : 47 + 1 = 48) ?_
    refine hp_goto E (tgt := 52) dX7_isFalse_48 (by decide) ?_
    exact b52 _ _ _ _ h hl hR
  have b51 : ∀ (H : Heap) (locs : List Loc) (ls : Array Slot), wb_X7_isFalse_51 o a1 Si Q → lv_has ls 3 [] → hp_S B D s0 Si H locs → W p l e ({ frames := 2, cells := 0, slots := 0, locals := 128 } : Room) s m args below meth c H locs 0 0 (MQ below (hp_Qi B D s0 (fun r S' => S' = Si ∧ Q r)) args s 0 0 (fun q => B < q)) (F0 m 51 ls []) := by
    intro  H locs ls h hl hR
    unfold wb_X7_isFalse_51 at h
    refine hp_iconst E (0 : Int32) (by decide) dX7_isFalse_51 (rfl : 51 + 1 = 52) ?_
    exact b52 _ _ _ _ h hl hR
  unfold wp_X7_isFalse at h
  refine hp_aload_n E hl 0 rfl 0 rfl dX7_isFalse_0 (rfl : 0 + 1 = 1) ?_
  refine hp_getR E hR in_X7 hc0 rfl 18 (Nat.le_of_ble_eq_true rfl) rfl q1279 (fun _ h => h) dX7_isFalse_1 (rfl : 1 + 3 = 4) ?_
  refine hp_iload_n E hl 1 rfl 1 rfl dX7_isFalse_4 (rfl : 4 + 1 = 5) ?_
  obtain ⟨hc1, h⟩ := h
  obtain ⟨hi2, h⟩ := h
  refine hp_iald E hR hc1 hi2 dX7_isFalse_5 (rfl : 5 + 1 = 6) ?_
  refine hp_istore_n E hl 2 rfl (lv' := [(0, hp_v B o), (1, .int a1)]) dX7_isFalse_6 (rfl : 6 + 1 = 7) (by decide) rfl (fun ls hl => ?_)
  refine hp_aload_n E hl 0 rfl 1 rfl dX7_isFalse_7 (rfl : 7 + 1 = 8) ?_
  refine hp_getR E hR in_X7 hc0 rfl 19 (Nat.le_of_ble_eq_true rfl) rfl q1280 (fun _ h => h) dX7_isFalse_8 (rfl : 8 + 3 = 11) ?_
  refine hp_iload_n E hl 1 rfl 2 rfl dX7_isFalse_11 (rfl : 11 + 1 = 12) ?_
  obtain ⟨hc3, h⟩ := h
  obtain ⟨hi4, h⟩ := h
  refine hp_iald E hR hc3 hi4 dX7_isFalse_12 (rfl : 12 + 1 = 13) ?_
  refine hp_aload_n E hl 0 rfl 1 rfl dX7_isFalse_13 (rfl : 13 + 1 = 14) ?_
  refine hp_getR E hR in_X7 hc0 rfl 5 (Nat.le_of_ble_eq_true rfl) rfl q1266 (fun _ h => h) dX7_isFalse_14 (rfl : 14 + 3 = 17) ?_
  refine hp_iload_n E hl 2 rfl 0 rfl dX7_isFalse_17 (rfl : 17 + 1 = 18) ?_
  obtain ⟨hc5, h⟩ := h
  obtain ⟨hi6, h⟩ := h
  refine hp_iald E hR hc5 hi6 dX7_isFalse_18 (rfl : 18 + 1 = 19) ?_
  refine hp_icmp_lt E dX7_isFalse_19 (rfl : 19 + 3 = 22) (tgt := 47) (by decide) (fun hb => ?_) (fun hb => ?_)
  · have h := h.1 hb
    exact b47 _ _ _ h (lv_sub hl [] rfl) hR
  · have h := h.2 hb
    refine hp_aload_n E hl 0 rfl 1 rfl dX7_isFalse_22 (rfl : 22 + 1 = 23) ?_
    refine hp_getR E hR in_X7 hc0 rfl 45 (Nat.le_of_ble_eq_true rfl) rfl q1306 (fun _ h => h) dX7_isFalse_23 (rfl : 23 + 3 = 26) ?_
    refine hp_iload_n E hl 2 rfl 0 rfl dX7_isFalse_26 (rfl : 26 + 1 = 27) ?_
    obtain ⟨hc7, h⟩ := h
    obtain ⟨hi8, h⟩ := h
    refine hp_iald E hR hc7 hi8 dX7_isFalse_27 (rfl : 27 + 1 = 28) ?_
    refine hp_iconst E (-1 : Int32) (by decide) dX7_isFalse_28 (rfl : 28 + 1 = 29) ?_
    refine hp_icmp_eq E dX7_isFalse_29 (rfl : 29 + 3 = 32) (tgt := 51) (by decide) (fun hb => ?_) (fun hb => ?_)
    · have h := h.1 hb
      exact b51 _ _ _ h (lv_sub hl [] rfl) hR
    · have h := h.2 hb
      refine hp_aload_n E hl 0 rfl 1 rfl dX7_isFalse_32 (rfl : 32 + 1 = 33) ?_
      refine hp_getR E hR in_X7 hc0 rfl 19 (Nat.le_of_ble_eq_true rfl) rfl q1280 (fun _ h => h) dX7_isFalse_33 (rfl : 33 + 3 = 36) ?_
      refine hp_iload_n E hl 1 rfl 2 rfl dX7_isFalse_36 (rfl : 36 + 1 = 37) ?_
      obtain ⟨hi9, h⟩ := h
      refine hp_iald E hR hc3 hi9 dX7_isFalse_37 (rfl : 37 + 1 = 38) ?_
      refine hp_aload_n E hl 0 rfl 1 rfl dX7_isFalse_38 (rfl : 38 + 1 = 39) ?_
      refine hp_getR E hR in_X7 hc0 rfl 45 (Nat.le_of_ble_eq_true rfl) rfl q1306 (fun _ h => h) dX7_isFalse_39 (rfl : 39 + 3 = 42) ?_
      refine hp_iload_n E hl 2 rfl 0 rfl dX7_isFalse_42 (rfl : 42 + 1 = 43) ?_
      obtain ⟨hi10, h⟩ := h
      refine hp_iald E hR hc7 hi10 dX7_isFalse_43 (rfl : 43 + 1 = 44) ?_
      refine hp_icmp_le E dX7_isFalse_44 (rfl : 44 + 3 = 47) (tgt := 51) (by decide) (fun hb => ?_) (fun hb => ?_)
      · have h := h.1 hb
        exact b51 _ _ _ h (lv_sub hl [] rfl) hR
      · have h := h.2 hb
        exact b47 _ _ _ h (lv_sub hl [] rfl) hR
def wb_X7_holds_24 (o : Nat) (a1 : Int32) (a2 : Int32) (S : hp_St) (Q : Int32 → hp_St → Prop) : Prop := Q (-1 : Int32) S
def wb_X7_holds_66 (o : Nat) (a1 : Int32) (a2 : Int32) (t0 : Int32) (S : hp_St) (Q : Int32 → hp_St → Prop) : Prop := Q t0 S
def wb_X7_holds_65 (o : Nat) (a1 : Int32) (a2 : Int32) (S : hp_St) (Q : Int32 → hp_St → Prop) : Prop := wb_X7_holds_66 o a1 a2 (1 : Int32) S Q
def wp_X7_holds (o : Nat) (a1 : Int32) (a2 : Int32) (S : hp_St) (Q : Int32 → hp_St → Prop) : Prop := (∀ S1, S1 = st_pI S o 2 (0 : Int32) → (((a1 < 0) → wb_X7_holds_24 o a1 a2 S1 Q) ∧ ((¬ (a1 < 0)) → (((a1 < (st_I S1 o 16)) → wp_X7_isHalf a2 S1 (fun z4 => (((z4 = 0) → wb_X7_holds_24 o a1 a2 S1 Q) ∧ ((¬ (z4 = 0)) → wp_X7_know o a2 S1 (fun S5 => hp_mono S1 S5 → (st_C S5 (st_R S5 o 44) = 51) ∧ (vp_in a1 (st_L S5 (st_R S5 o 44))) ∧ ((((st_I S5 (st_R S5 o 44) a1.toNatClampNeg) = 0) → wb_X7_holds_66 o a1 a2 (0 : Int32) S5 Q) ∧ ((¬ ((st_I S5 (st_R S5 o 44) a1.toNatClampNeg) = 0)) → (st_C S5 (st_R S5 o 17) = 50) ∧ (vp_in a1 (st_L S5 (st_R S5 o 17))) ∧ ((((st_I S5 (st_R S5 o 17) a1.toNatClampNeg) = 0) → wp_X7_isFalse o a1 S5 (fun z11 => (((z11 = 0) → wb_X7_holds_65 o a1 a2 S5 Q) ∧ ((¬ (z11 = 0)) → wb_X7_holds_66 o a1 a2 (2 : Int32) S5 Q)))) ∧ ((¬ ((st_I S5 (st_R S5 o 17) a1.toNatClampNeg) = 0)) → wb_X7_holds_65 o a1 a2 S5 Q))))))))) ∧ ((¬ (a1 < (st_I S1 o 16))) → wb_X7_holds_24 o a1 a2 S1 Q)))))
theorem nf_X7_holds : hp_nf yX7_holds 2 = true := by decide +kernel
set_option maxHeartbeats 4000000 in
theorem m_X7_holds {l : Launch} {B : Nat} {D : va_G} {s0 : State} {b0 : Nat} (G : hp_G l B D s0 b0) (o : Nat) (a1 : Int32) (a2 : Int32) (Si : hp_St) (Q : Int32 → hp_St → Prop) (hc0 : st_C Si o = 7) (h : wp_X7_holds o a1 a2 Si Q) : hp_M l B D s0 yX7_holds cX7_holds 3 (some .int) 3 192 0 0 [hp_v B o, .int a1, .int a2] Si (hp_Qi B D s0 (fun r S' => hp_mono Si S' ∧ Q r S')) := by
  refine hp_start G (by decide +kernel) rfl rfl (lv := [(0, hp_v B o), (1, .int a1), (2, .int a2)]) (by simp [lg_sl, hp_vc, hp_ci, hp_cj]) (by simp [lv_args, hp_vc, hp_ci, hp_cj]) ?_
  intro p e s m args below meth c E ls hl hR
  have hm : hp_mono Si Si := hp_mono.rf
  generalize hH : s.heap = H at hR ⊢
  generalize hLo : ([] : List Loc) = locs at hR ⊢
  have b24 : ∀ (S : hp_St) (H : Heap) (locs : List Loc) (ls : Array Slot), wb_X7_holds_24 o a1 a2 S Q → lv_has ls 3 [] → hp_S B D s0 S H locs → hp_mono Si S → W p l e ({ frames := 3, cells := 0, slots := 0, locals := 192 } : Room) s m args below meth c H locs 0 0 (MQ below (hp_Qi B D s0 (fun r S' => hp_mono Si S' ∧ Q r S')) args s 0 0 (fun q => B < q)) (F0 m 24 ls []) := by
    intro S H locs ls h hl hR hm
    unfold wb_X7_holds_24 at h
    refine hp_iconst E (-1 : Int32) (by decide) dX7_holds_24 (rfl : 24 + 1 = 25) ?_
    exact hp_iret E hR ⟨hm, h⟩ (Nat.le_of_ble_eq_true rfl) (Nat.le_of_ble_eq_true rfl) dX7_holds_25
  have b66 : ∀ (t0 : Int32) (S : hp_St) (H : Heap) (locs : List Loc) (ls : Array Slot), wb_X7_holds_66 o a1 a2 t0 S Q → lv_has ls 3 [] → hp_S B D s0 S H locs → hp_mono Si S → W p l e ({ frames := 3, cells := 0, slots := 0, locals := 192 } : Room) s m args below meth c H locs 0 0 (MQ below (hp_Qi B D s0 (fun r S' => hp_mono Si S' ∧ Q r S')) args s 0 0 (fun q => B < q)) (F0 m 66 ls [.int t0]) := by
    intro t0 S H locs ls h hl hR hm
    unfold wb_X7_holds_66 at h
    exact hp_iret E hR ⟨hm, h⟩ (Nat.le_of_ble_eq_true rfl) (Nat.le_of_ble_eq_true rfl) dX7_holds_66
  have b65 : ∀ (S : hp_St) (H : Heap) (locs : List Loc) (ls : Array Slot), wb_X7_holds_65 o a1 a2 S Q → lv_has ls 3 [] → hp_S B D s0 S H locs → hp_mono Si S → W p l e ({ frames := 3, cells := 0, slots := 0, locals := 192 } : Room) s m args below meth c H locs 0 0 (MQ below (hp_Qi B D s0 (fun r S' => hp_mono Si S' ∧ Q r S')) args s 0 0 (fun q => B < q)) (F0 m 65 ls []) := by
    intro S H locs ls h hl hR hm
    unfold wb_X7_holds_65 at h
    refine hp_iconst E (1 : Int32) (by decide) dX7_holds_65 (rfl : 65 + 1 = 66) ?_
    exact b66 _ _ _ _ _ h hl hR hm
  unfold wp_X7_holds at h
  refine hp_aload_n E hl 0 rfl 0 rfl dX7_holds_0 (rfl : 0 + 1 = 1) ?_
  refine hp_iconst E (0 : Int32) (by decide) dX7_holds_1 (rfl : 1 + 1 = 2) ?_
  refine hx_putI E hR in_X7 tyX7 tyX7_ok nmX7 hc0 rfl 2 (Nat.le_of_ble_eq_true rfl) rfl q1263 (fun _ h => h) (Or.inl rfl) (Or.inl rfl) dX7_holds_2 (rfl : 2 + 3 = 5) (fun S1 H locs e3 hm2 hR => ?_)
  have h := h S1 e3
  have hm := hp_mono.tr hm hm2
  refine hp_iload_n E hl 1 rfl 1 rfl dX7_holds_5 (rfl : 5 + 1 = 6) ?_
  refine hp_if_lt E dX7_holds_6 (rfl : 6 + 3 = 9) (tgt := 24) (by decide) (fun hb => ?_) (fun hb => ?_)
  · have h := h.1 hb
    exact b24 _ _ _ _ h (lv_sub hl [] rfl) hR hm
  · have h := h.2 hb
    refine hp_iload_n E hl 1 rfl 1 rfl dX7_holds_9 (rfl : 9 + 1 = 10) ?_
    refine hp_aload_n E hl 0 rfl 0 rfl dX7_holds_10 (rfl : 10 + 1 = 11) ?_
    refine hp_getI E hR in_X7 (hp_mono.c hm hc0) rfl 16 (Nat.le_of_ble_eq_true rfl) rfl q1277 (fun _ h => h) dX7_holds_11 (rfl : 11 + 3 = 14) ?_
    refine hp_icmp_ge E dX7_holds_14 (rfl : 14 + 3 = 17) (tgt := 24) (by decide) (fun hb => ?_) (fun hb => ?_)
    · have h := h.1 hb
      refine hp_iload_n E hl 2 rfl 2 rfl dX7_holds_17 (rfl : 17 + 1 = 18) ?_
      refine hp_fi (hp_rS E hR hl (m_X7_isHalf G _ _ _ h) q1562 q1563 q82 q1564 nf_X7_isHalf ⟨Nat.le_of_ble_eq_true rfl, Nat.le_of_ble_eq_true rfl⟩ (rest := []) rfl (Nat.le_of_ble_eq_true rfl) dX7_holds_18 ⟨Nat.le_of_ble_eq_true rfl, Nat.le_of_ble_eq_true rfl⟩) hR (rfl : 18 + 3 = 21) (fun z4 Sx H locs hq hR => ?_)
      obtain ⟨hSx, h⟩ := hq
      rw [hSx] at hR
      refine hp_if_ne E dX7_holds_21 (rfl : 21 + 3 = 24) (tgt := 26) (by decide) (fun hb => ?_) (fun hb => ?_)
      · have h := h.1 hb
        exact b24 _ _ _ _ h (lv_sub hl [] rfl) hR hm
      · have h := h.2 hb
        refine hp_aload_n E hl 0 rfl 0 rfl dX7_holds_26 (rfl : 26 + 1 = 27) ?_
        refine hp_iload_n E hl 2 rfl 2 rfl dX7_holds_27 (rfl : 27 + 1 = 28) ?_
        refine hp_fv (hp_rV E hR hl (m_X7_know G _ _ _ _ (hp_mono.c hm hc0) h) (hp_mono.c hm hc0) (ci := 6) rfl rfl q1581 q1583 qs53 q82 q1584 nf_X7_know ⟨Nat.le_of_ble_eq_true rfl, Nat.le_of_ble_eq_true rfl⟩ (rest := []) rfl (Nat.le_of_ble_eq_true rfl) dX7_holds_28 ⟨Nat.le_of_ble_eq_true rfl, Nat.le_of_ble_eq_true rfl⟩) hR (rfl : 28 + 3 = 31) (fun S5 H locs hq hR => ?_)
        obtain ⟨hm6, h⟩ := hq
        have h := h hm6
        have hm := hp_mono.tr hm hm6
        refine hp_aload_n E hl 0 rfl 0 rfl dX7_holds_31 (rfl : 31 + 1 = 32) ?_
        refine hp_getR E hR in_X7 (hp_mono.c hm hc0) rfl 44 (Nat.le_of_ble_eq_true rfl) rfl q1305 (fun _ h => h) dX7_holds_32 (rfl : 32 + 3 = 35) ?_
        refine hp_iload_n E hl 1 rfl 1 rfl dX7_holds_35 (rfl : 35 + 1 = 36) ?_
        obtain ⟨hc7, h⟩ := h
        obtain ⟨hi8, h⟩ := h
        refine hp_zald E hR hc7 hi8 dX7_holds_36 (rfl : 36 + 1 = 37) ?_
        refine hp_if_ne E dX7_holds_37 (rfl : 37 + 3 = 40) (tgt := 44) (by decide) (fun hb => ?_) (fun hb => ?_)
        · have h := h.1 hb
          refine hp_iconst E (0 : Int32) (by decide) dX7_holds_40 (rfl : 40 + 1 = 41) ?_
          refine hp_goto E (tgt := 66) dX7_holds_41 (by decide) ?_
          exact b66 _ _ _ _ _ h (lv_sub hl [] rfl) hR hm
        · have h := h.2 hb
          refine hp_aload_n E hl 0 rfl 0 rfl dX7_holds_44 (rfl : 44 + 1 = 45) ?_
          refine hp_getR E hR in_X7 (hp_mono.c hm hc0) rfl 17 (Nat.le_of_ble_eq_true rfl) rfl q1278 (fun _ h => h) dX7_holds_45 (rfl : 45 + 3 = 48) ?_
          refine hp_iload_n E hl 1 rfl 1 rfl dX7_holds_48 (rfl : 48 + 1 = 49) ?_
          obtain ⟨hc9, h⟩ := h
          obtain ⟨hi10, h⟩ := h
          refine hp_iald E hR hc9 hi10 dX7_holds_49 (rfl : 49 + 1 = 50) ?_
          refine hp_if_ne E dX7_holds_50 (rfl : 50 + 3 = 53) (tgt := 65) (by decide) (fun hb => ?_) (fun hb => ?_)
          · have h := h.1 hb
            refine hp_aload_n E hl 0 rfl 0 rfl dX7_holds_53 (rfl : 53 + 1 = 54) ?_
            refine hp_iload_n E hl 1 rfl 1 rfl dX7_holds_54 (rfl : 54 + 1 = 55) ?_
            refine hp_fi (hp_rV E hR hl (m_X7_isFalse G _ _ _ _ (hp_mono.c hm hc0) h) (hp_mono.c hm hc0) (ci := 6) rfl rfl q1589 q1591 qs54 q82 q1592 nf_X7_isFalse ⟨Nat.le_of_ble_eq_true rfl, Nat.le_of_ble_eq_true rfl⟩ (rest := []) rfl (Nat.le_of_ble_eq_true rfl) dX7_holds_55 ⟨Nat.le_of_ble_eq_true rfl, Nat.le_of_ble_eq_true rfl⟩) hR (rfl : 55 + 3 = 58) (fun z11 Sx H locs hq hR => ?_)
            obtain ⟨hSx, h⟩ := hq
            rw [hSx] at hR
            refine hp_if_eq E dX7_holds_58 (rfl : 58 + 3 = 61) (tgt := 65) (by decide) (fun hb => ?_) (fun hb => ?_)
            · have h := h.1 hb
              exact b65 _ _ _ _ h (lv_sub hl [] rfl) hR hm
            · have h := h.2 hb
              refine hp_iconst E (2 : Int32) (by decide) dX7_holds_61 (rfl : 61 + 1 = 62) ?_
              refine hp_goto E (tgt := 66) dX7_holds_62 (by decide) ?_
              exact b66 _ _ _ _ _ h (lv_sub hl [] rfl) hR hm
          · have h := h.2 hb
            exact b65 _ _ _ _ h (lv_sub hl [] rfl) hR hm
    · have h := h.2 hb
      exact b24 _ _ _ _ h (lv_sub hl [] rfl) hR hm
def wb_X7_lives_30 (o : Nat) (a1 : Int32) (a2 : Int32) (t0 : Int32) (S : hp_St) (Q : Int32 → Prop) : Prop := (t0 = 0 ∨ t0 = 1) ∧ Q t0
def wb_X7_lives_29 (o : Nat) (a1 : Int32) (a2 : Int32) (S : hp_St) (Q : Int32 → Prop) : Prop := wb_X7_lives_30 o a1 a2 (0 : Int32) S Q
def wb_X7_lives_25 (o : Nat) (a1 : Int32) (a2 : Int32) (S : hp_St) (Q : Int32 → Prop) : Prop := wb_X7_lives_30 o a1 a2 (1 : Int32) S Q
def wp_X7_lives (o : Nat) (a1 : Int32) (a2 : Int32) (S : hp_St) (Q : Int32 → Prop) : Prop := (((a1 = (-1 : Int32)) → wb_X7_lives_29 o a1 a2 S Q) ∧ ((¬ (a1 = (-1 : Int32))) → (st_C S (st_R S o 45) = 50) ∧ (vp_in a1 (st_L S (st_R S o 45))) ∧ ((((st_I S (st_R S o 45) a1.toNatClampNeg) = (-1 : Int32)) → wb_X7_lives_25 o a1 a2 S Q) ∧ ((¬ ((st_I S (st_R S o 45) a1.toNatClampNeg) = (-1 : Int32))) → (vp_in a1 (st_L S (st_R S o 45))) ∧ ((((st_I S (st_R S o 45) a1.toNatClampNeg) < a2) → wb_X7_lives_29 o a1 a2 S Q) ∧ ((¬ ((st_I S (st_R S o 45) a1.toNatClampNeg) < a2)) → wb_X7_lives_25 o a1 a2 S Q))))))
theorem nf_X7_lives : hp_nf yX7_lives 2 = true := by decide +kernel
set_option maxHeartbeats 4000000 in
theorem m_X7_lives {l : Launch} {B : Nat} {D : va_G} {s0 : State} {b0 : Nat} (G : hp_G l B D s0 b0) (o : Nat) (a1 : Int32) (a2 : Int32) (Si : hp_St) (Q : Int32 → Prop) (hc0 : st_C Si o = 7) (h : wp_X7_lives o a1 a2 Si Q) : hp_M l B D s0 yX7_lives cX7_lives 3 (some .boolean) 2 128 0 0 [hp_v B o, .int a1, .int a2] Si (hp_Qi B D s0 (fun r S' => S' = Si ∧ Q r)) := by
  refine hp_start G (by decide +kernel) rfl rfl (lv := [(0, hp_v B o), (1, .int a1), (2, .int a2)]) (by simp [lg_sl, hp_vc, hp_ci, hp_cj]) (by simp [lv_args, hp_vc, hp_ci, hp_cj]) ?_
  intro p e s m args below meth c E ls hl hR
  generalize hH : s.heap = H at hR ⊢
  generalize hLo : ([] : List Loc) = locs at hR ⊢
  have b30 : ∀ (t0 : Int32) (H : Heap) (locs : List Loc) (ls : Array Slot), wb_X7_lives_30 o a1 a2 t0 Si Q → lv_has ls 3 [] → hp_S B D s0 Si H locs → W p l e ({ frames := 2, cells := 0, slots := 0, locals := 128 } : Room) s m args below meth c H locs 0 0 (MQ below (hp_Qi B D s0 (fun r S' => S' = Si ∧ Q r)) args s 0 0 (fun q => B < q)) (F0 m 30 ls [.int t0]) := by
    intro t0 H locs ls h hl hR
    unfold wb_X7_lives_30 at h
    obtain ⟨hz3001, h⟩ := h
    exact hp_zret E hR hz3001 ⟨rfl, h⟩ (Nat.le_of_ble_eq_true rfl) (Nat.le_of_ble_eq_true rfl) dX7_lives_30
  have b29 : ∀ (H : Heap) (locs : List Loc) (ls : Array Slot), wb_X7_lives_29 o a1 a2 Si Q → lv_has ls 3 [] → hp_S B D s0 Si H locs → W p l e ({ frames := 2, cells := 0, slots := 0, locals := 128 } : Room) s m args below meth c H locs 0 0 (MQ below (hp_Qi B D s0 (fun r S' => S' = Si ∧ Q r)) args s 0 0 (fun q => B < q)) (F0 m 29 ls []) := by
    intro  H locs ls h hl hR
    unfold wb_X7_lives_29 at h
    refine hp_iconst E (0 : Int32) (by decide) dX7_lives_29 (rfl : 29 + 1 = 30) ?_
    exact b30 _ _ _ _ h hl hR
  have b25 : ∀ (H : Heap) (locs : List Loc) (ls : Array Slot), wb_X7_lives_25 o a1 a2 Si Q → lv_has ls 3 [] → hp_S B D s0 Si H locs → W p l e ({ frames := 2, cells := 0, slots := 0, locals := 128 } : Room) s m args below meth c H locs 0 0 (MQ below (hp_Qi B D s0 (fun r S' => S' = Si ∧ Q r)) args s 0 0 (fun q => B < q)) (F0 m 25 ls []) := by
    intro  H locs ls h hl hR
    unfold wb_X7_lives_25 at h
    refine hp_iconst E (1 : Int32) (by decide) dX7_lives_25 (rfl : 25 + 1 = 26) ?_
    refine hp_goto E (tgt := 30) dX7_lives_26 (by decide) ?_
    exact b30 _ _ _ _ h hl hR
  unfold wp_X7_lives at h
  refine hp_iload_n E hl 1 rfl 1 rfl dX7_lives_0 (rfl : 0 + 1 = 1) ?_
  refine hp_iconst E (-1 : Int32) (by decide) dX7_lives_1 (rfl : 1 + 1 = 2) ?_
  refine hp_icmp_eq E dX7_lives_2 (rfl : 2 + 3 = 5) (tgt := 29) (by decide) (fun hb => ?_) (fun hb => ?_)
  · have h := h.1 hb
    exact b29 _ _ _ h (lv_sub hl [] rfl) hR
  · have h := h.2 hb
    refine hp_aload_n E hl 0 rfl 0 rfl dX7_lives_5 (rfl : 5 + 1 = 6) ?_
    refine hp_getR E hR in_X7 hc0 rfl 45 (Nat.le_of_ble_eq_true rfl) rfl q1306 (fun _ h => h) dX7_lives_6 (rfl : 6 + 3 = 9) ?_
    refine hp_iload_n E hl 1 rfl 1 rfl dX7_lives_9 (rfl : 9 + 1 = 10) ?_
    obtain ⟨hc1, h⟩ := h
    obtain ⟨hi2, h⟩ := h
    refine hp_iald E hR hc1 hi2 dX7_lives_10 (rfl : 10 + 1 = 11) ?_
    refine hp_iconst E (-1 : Int32) (by decide) dX7_lives_11 (rfl : 11 + 1 = 12) ?_
    refine hp_icmp_eq E dX7_lives_12 (rfl : 12 + 3 = 15) (tgt := 25) (by decide) (fun hb => ?_) (fun hb => ?_)
    · have h := h.1 hb
      exact b25 _ _ _ h (lv_sub hl [] rfl) hR
    · have h := h.2 hb
      refine hp_aload_n E hl 0 rfl 0 rfl dX7_lives_15 (rfl : 15 + 1 = 16) ?_
      refine hp_getR E hR in_X7 hc0 rfl 45 (Nat.le_of_ble_eq_true rfl) rfl q1306 (fun _ h => h) dX7_lives_16 (rfl : 16 + 3 = 19) ?_
      refine hp_iload_n E hl 1 rfl 1 rfl dX7_lives_19 (rfl : 19 + 1 = 20) ?_
      obtain ⟨hi3, h⟩ := h
      refine hp_iald E hR hc1 hi3 dX7_lives_20 (rfl : 20 + 1 = 21) ?_
      refine hp_iload_n E hl 2 rfl 2 rfl dX7_lives_21 (rfl : 21 + 1 = 22) ?_
      refine hp_icmp_lt E dX7_lives_22 (rfl : 22 + 3 = 25) (tgt := 29) (by decide) (fun hb => ?_) (fun hb => ?_)
      · have h := h.1 hb
        exact b29 _ _ _ h (lv_sub hl [] rfl) hR
      · have h := h.2 hb
        exact b25 _ _ _ h (lv_sub hl [] rfl) hR
def wb_X7_isDue_43 (o : Nat) (a1 : Int32) (a2 : Int32) (t0 : Int32) (S : hp_St) (Q : Int32 → Prop) : Prop := (t0 = 0 ∨ t0 = 1) ∧ Q t0
def wb_X7_isDue_42 (o : Nat) (a1 : Int32) (a2 : Int32) (S : hp_St) (Q : Int32 → Prop) : Prop := wb_X7_isDue_43 o a1 a2 (0 : Int32) S Q
def wb_X7_isDue_38 (o : Nat) (a1 : Int32) (a2 : Int32) (S : hp_St) (Q : Int32 → Prop) : Prop := wb_X7_isDue_43 o a1 a2 (1 : Int32) S Q
def wp_X7_isDue (o : Nat) (a1 : Int32) (a2 : Int32) (S : hp_St) (Q : Int32 → Prop) : Prop := (st_C S (st_R S o 8) = 50) ∧ (vp_in a1 (st_L S (st_R S o 8))) ∧ (((a2 ≤ (st_I S (st_R S o 8) a1.toNatClampNeg)) → wb_X7_isDue_42 o a1 a2 S Q) ∧ ((¬ (a2 ≤ (st_I S (st_R S o 8) a1.toNatClampNeg))) → (st_C S (st_R S o 10) = 50) ∧ (vp_in a1 (st_L S (st_R S o 10))) ∧ wp_X7_lives o (st_I S (st_R S o 10) a1.toNatClampNeg) a2 S (fun z5 => (((z5 = 0) → (st_C S (st_R S o 11) = 50) ∧ (vp_in a1 (st_L S (st_R S o 11))) ∧ wp_X7_lives o (st_I S (st_R S o 11) a1.toNatClampNeg) a2 S (fun z8 => (((z8 = 0) → wb_X7_isDue_42 o a1 a2 S Q) ∧ ((¬ (z8 = 0)) → wb_X7_isDue_38 o a1 a2 S Q)))) ∧ ((¬ (z5 = 0)) → wb_X7_isDue_38 o a1 a2 S Q)))))
theorem nf_X7_isDue : hp_nf yX7_isDue 2 = true := by decide +kernel
set_option maxHeartbeats 4000000 in
theorem m_X7_isDue {l : Launch} {B : Nat} {D : va_G} {s0 : State} {b0 : Nat} (G : hp_G l B D s0 b0) (o : Nat) (a1 : Int32) (a2 : Int32) (Si : hp_St) (Q : Int32 → Prop) (hc0 : st_C Si o = 7) (h : wp_X7_isDue o a1 a2 Si Q) : hp_M l B D s0 yX7_isDue cX7_isDue 3 (some .boolean) 3 192 0 0 [hp_v B o, .int a1, .int a2] Si (hp_Qi B D s0 (fun r S' => S' = Si ∧ Q r)) := by
  refine hp_start G (by decide +kernel) rfl rfl (lv := [(0, hp_v B o), (1, .int a1), (2, .int a2)]) (by simp [lg_sl, hp_vc, hp_ci, hp_cj]) (by simp [lv_args, hp_vc, hp_ci, hp_cj]) ?_
  intro p e s m args below meth c E ls hl hR
  generalize hH : s.heap = H at hR ⊢
  generalize hLo : ([] : List Loc) = locs at hR ⊢
  have b43 : ∀ (t0 : Int32) (H : Heap) (locs : List Loc) (ls : Array Slot), wb_X7_isDue_43 o a1 a2 t0 Si Q → lv_has ls 3 [] → hp_S B D s0 Si H locs → W p l e ({ frames := 3, cells := 0, slots := 0, locals := 192 } : Room) s m args below meth c H locs 0 0 (MQ below (hp_Qi B D s0 (fun r S' => S' = Si ∧ Q r)) args s 0 0 (fun q => B < q)) (F0 m 43 ls [.int t0]) := by
    intro t0 H locs ls h hl hR
    unfold wb_X7_isDue_43 at h
    obtain ⟨hz4301, h⟩ := h
    exact hp_zret E hR hz4301 ⟨rfl, h⟩ (Nat.le_of_ble_eq_true rfl) (Nat.le_of_ble_eq_true rfl) dX7_isDue_43
  have b42 : ∀ (H : Heap) (locs : List Loc) (ls : Array Slot), wb_X7_isDue_42 o a1 a2 Si Q → lv_has ls 3 [] → hp_S B D s0 Si H locs → W p l e ({ frames := 3, cells := 0, slots := 0, locals := 192 } : Room) s m args below meth c H locs 0 0 (MQ below (hp_Qi B D s0 (fun r S' => S' = Si ∧ Q r)) args s 0 0 (fun q => B < q)) (F0 m 42 ls []) := by
    intro  H locs ls h hl hR
    unfold wb_X7_isDue_42 at h
    refine hp_iconst E (0 : Int32) (by decide) dX7_isDue_42 (rfl : 42 + 1 = 43) ?_
    exact b43 _ _ _ _ h hl hR
  have b38 : ∀ (H : Heap) (locs : List Loc) (ls : Array Slot), wb_X7_isDue_38 o a1 a2 Si Q → lv_has ls 3 [] → hp_S B D s0 Si H locs → W p l e ({ frames := 3, cells := 0, slots := 0, locals := 192 } : Room) s m args below meth c H locs 0 0 (MQ below (hp_Qi B D s0 (fun r S' => S' = Si ∧ Q r)) args s 0 0 (fun q => B < q)) (F0 m 38 ls []) := by
    intro  H locs ls h hl hR
    unfold wb_X7_isDue_38 at h
    refine hp_iconst E (1 : Int32) (by decide) dX7_isDue_38 (rfl : 38 + 1 = 39) ?_
    refine hp_goto E (tgt := 43) dX7_isDue_39 (by decide) ?_
    exact b43 _ _ _ _ h hl hR
  unfold wp_X7_isDue at h
  refine hp_iload_n E hl 2 rfl 2 rfl dX7_isDue_0 (rfl : 0 + 1 = 1) ?_
  refine hp_aload_n E hl 0 rfl 0 rfl dX7_isDue_1 (rfl : 1 + 1 = 2) ?_
  refine hp_getR E hR in_X7 hc0 rfl 8 (Nat.le_of_ble_eq_true rfl) rfl q1269 (fun _ h => h) dX7_isDue_2 (rfl : 2 + 3 = 5) ?_
  refine hp_iload_n E hl 1 rfl 1 rfl dX7_isDue_5 (rfl : 5 + 1 = 6) ?_
  obtain ⟨hc1, h⟩ := h
  obtain ⟨hi2, h⟩ := h
  refine hp_iald E hR hc1 hi2 dX7_isDue_6 (rfl : 6 + 1 = 7) ?_
  refine hp_icmp_le E dX7_isDue_7 (rfl : 7 + 3 = 10) (tgt := 42) (by decide) (fun hb => ?_) (fun hb => ?_)
  · have h := h.1 hb
    exact b42 _ _ _ h (lv_sub hl [] rfl) hR
  · have h := h.2 hb
    refine hp_aload_n E hl 0 rfl 0 rfl dX7_isDue_10 (rfl : 10 + 1 = 11) ?_
    refine hp_aload_n E hl 0 rfl 0 rfl dX7_isDue_11 (rfl : 11 + 1 = 12) ?_
    refine hp_getR E hR in_X7 hc0 rfl 10 (Nat.le_of_ble_eq_true rfl) rfl q1271 (fun _ h => h) dX7_isDue_12 (rfl : 12 + 3 = 15) ?_
    refine hp_iload_n E hl 1 rfl 1 rfl dX7_isDue_15 (rfl : 15 + 1 = 16) ?_
    obtain ⟨hc3, h⟩ := h
    obtain ⟨hi4, h⟩ := h
    refine hp_iald E hR hc3 hi4 dX7_isDue_16 (rfl : 16 + 1 = 17) ?_
    refine hp_iload_n E hl 2 rfl 2 rfl dX7_isDue_17 (rfl : 17 + 1 = 18) ?_
    refine hp_fi (hp_rV E hR hl (m_X7_lives G _ _ _ _ _ hc0 h) hc0 (ci := 6) rfl rfl q1605 q1607 qs57 q82 q1608 nf_X7_lives ⟨Nat.le_of_ble_eq_true rfl, Nat.le_of_ble_eq_true rfl⟩ (rest := []) rfl (Nat.le_of_ble_eq_true rfl) dX7_isDue_18 ⟨Nat.le_of_ble_eq_true rfl, Nat.le_of_ble_eq_true rfl⟩) hR (rfl : 18 + 3 = 21) (fun z5 Sx H locs hq hR => ?_)
    obtain ⟨hSx, h⟩ := hq
    rw [hSx] at hR
    refine hp_if_ne E dX7_isDue_21 (rfl : 21 + 3 = 24) (tgt := 38) (by decide) (fun hb => ?_) (fun hb => ?_)
    · have h := h.1 hb
      refine hp_aload_n E hl 0 rfl 0 rfl dX7_isDue_24 (rfl : 24 + 1 = 25) ?_
      refine hp_aload_n E hl 0 rfl 0 rfl dX7_isDue_25 (rfl : 25 + 1 = 26) ?_
      refine hp_getR E hR in_X7 hc0 rfl 11 (Nat.le_of_ble_eq_true rfl) rfl q1272 (fun _ h => h) dX7_isDue_26 (rfl : 26 + 3 = 29) ?_
      refine hp_iload_n E hl 1 rfl 1 rfl dX7_isDue_29 (rfl : 29 + 1 = 30) ?_
      obtain ⟨hc6, h⟩ := h
      obtain ⟨hi7, h⟩ := h
      refine hp_iald E hR hc6 hi7 dX7_isDue_30 (rfl : 30 + 1 = 31) ?_
      refine hp_iload_n E hl 2 rfl 2 rfl dX7_isDue_31 (rfl : 31 + 1 = 32) ?_
      refine hp_fi (hp_rV E hR hl (m_X7_lives G _ _ _ _ _ hc0 h) hc0 (ci := 6) rfl rfl q1605 q1607 qs57 q82 q1608 nf_X7_lives ⟨Nat.le_of_ble_eq_true rfl, Nat.le_of_ble_eq_true rfl⟩ (rest := []) rfl (Nat.le_of_ble_eq_true rfl) dX7_isDue_32 ⟨Nat.le_of_ble_eq_true rfl, Nat.le_of_ble_eq_true rfl⟩) hR (rfl : 32 + 3 = 35) (fun z8 Sx H locs hq hR => ?_)
      obtain ⟨hSx, h⟩ := hq
      rw [hSx] at hR
      refine hp_if_eq E dX7_isDue_35 (rfl : 35 + 3 = 38) (tgt := 42) (by decide) (fun hb => ?_) (fun hb => ?_)
      · have h := h.1 hb
        exact b42 _ _ _ h (lv_sub hl [] rfl) hR
      · have h := h.2 hb
        exact b38 _ _ _ h (lv_sub hl [] rfl) hR
    · have h := h.2 hb
      exact b38 _ _ _ h (lv_sub hl [] rfl) hR
def wb_X7_isProved_101 (o : Nat) (a1 : Int32) (a2 : Int32) (v3 : Int32) (S : hp_St) (K2 : Int32 → Prop) (Q : Int32 → Prop) : Prop := K2 (v3 + (1 : Int32))
def wb_X7_isProved_63 (o : Nat) (a1 : Int32) (a2 : Int32) (v3 : Int32) (t0 : Int32) (S : hp_St) (K2 : Int32 → Prop) (Q : Int32 → Prop) : Prop := (((t0 = 0) → wb_X7_isProved_101 o a1 a2 v3 S K2 Q) ∧ ((¬ (t0 = 0)) → (st_C S (st_R S o 19) = 50) ∧ (vp_in v3 (st_L S (st_R S o 19))) ∧ (st_C S (st_R S o 40) = 50) ∧ (vp_in (1 : Int32) (st_L S (st_R S o 40))) ∧ wp_X7_isIn (st_I S (st_R S o 19) v3.toNatClampNeg) a2 (a2 + (st_I S (st_R S o 40) (1 : Int32).toNatClampNeg)) S (fun z6305 => (((z6305 = 0) → wb_X7_isProved_101 o a1 a2 v3 S K2 Q) ∧ ((¬ (z6305 = 0)) → wp_X7_isFalse o v3 S (fun z6306 => (((z6306 = 0) → Q (1 : Int32)) ∧ ((¬ (z6306 = 0)) → wb_X7_isProved_101 o a1 a2 v3 S K2 Q))))))))
def wb_X7_isProved_62 (o : Nat) (a1 : Int32) (a2 : Int32) (v3 : Int32) (S : hp_St) (K2 : Int32 → Prop) (Q : Int32 → Prop) : Prop := wb_X7_isProved_63 o a1 a2 v3 (0 : Int32) S K2 Q
def wb_X7_isProved_58 (o : Nat) (a1 : Int32) (a2 : Int32) (v3 : Int32) (S : hp_St) (K2 : Int32 → Prop) (Q : Int32 → Prop) : Prop := wb_X7_isProved_63 o a1 a2 v3 (1 : Int32) S K2 Q
def wb_X7_isProved_2 (o : Nat) (a1 : Int32) (a2 : Int32) (v3 : Int32) (S : hp_St) (K2 : Int32 → Prop) (Q : Int32 → Prop) : Prop := (((v3 < (st_I S o 16)) → (st_C S (st_R S o 17) = 50) ∧ (vp_in v3 (st_L S (st_R S o 17))) ∧ ((((st_I S (st_R S o 17) v3.toNatClampNeg) = 0) → (st_C S (st_R S o 44) = 51) ∧ (vp_in v3 (st_L S (st_R S o 44))) ∧ ((((st_I S (st_R S o 44) v3.toNatClampNeg) = 0) → wb_X7_isProved_62 o a1 a2 v3 S K2 Q) ∧ ((¬ ((st_I S (st_R S o 44) v3.toNatClampNeg) = 0)) → (st_C S (st_R S o 18) = 50) ∧ (vp_in v3 (st_L S (st_R S o 18))) ∧ (st_C S (st_R S o 10) = 50) ∧ (vp_in a1 (st_L S (st_R S o 10))) ∧ ((((st_I S (st_R S o 18) v3.toNatClampNeg) = (st_I S (st_R S o 10) a1.toNatClampNeg)) → wb_X7_isProved_58 o a1 a2 v3 S K2 Q) ∧ ((¬ ((st_I S (st_R S o 18) v3.toNatClampNeg) = (st_I S (st_R S o 10) a1.toNatClampNeg))) → (vp_in v3 (st_L S (st_R S o 18))) ∧ (st_C S (st_R S o 11) = 50) ∧ (vp_in a1 (st_L S (st_R S o 11))) ∧ ((((st_I S (st_R S o 18) v3.toNatClampNeg) = (st_I S (st_R S o 11) a1.toNatClampNeg)) → wb_X7_isProved_58 o a1 a2 v3 S K2 Q) ∧ ((¬ ((st_I S (st_R S o 18) v3.toNatClampNeg) = (st_I S (st_R S o 11) a1.toNatClampNeg))) → wb_X7_isProved_62 o a1 a2 v3 S K2 Q))))))) ∧ ((¬ ((st_I S (st_R S o 17) v3.toNatClampNeg) = 0)) → wb_X7_isProved_62 o a1 a2 v3 S K2 Q))) ∧ ((¬ (v3 < (st_I S o 16))) → Q (0 : Int32)))
def wl_X7_isProved_2 (o : Nat) (a1 : Int32) (a2 : Int32) (v3 : Int32) (S : hp_St) (Q : Int32 → Prop) : Prop := ∃ (I : Int32 → Prop) (μ : Int32 → Nat), I v3 ∧ ∀ (v3 : Int32), I v3 → wb_X7_isProved_2 o a1 a2 v3 S (fun v3' => I v3' ∧ μ v3' < μ v3) Q
def wp_X7_isProved (o : Nat) (a1 : Int32) (a2 : Int32) (S : hp_St) (Q : Int32 → Prop) : Prop := wl_X7_isProved_2 o a1 a2 (0 : Int32) S Q
theorem nf_X7_isProved : hp_nf yX7_isProved 2 = true := by decide +kernel
set_option maxHeartbeats 4000000 in
theorem m_X7_isProved {l : Launch} {B : Nat} {D : va_G} {s0 : State} {b0 : Nat} (G : hp_G l B D s0 b0) (o : Nat) (a1 : Int32) (a2 : Int32) (Si : hp_St) (Q : Int32 → Prop) (hc0 : st_C Si o = 7) (h : wp_X7_isProved o a1 a2 Si Q) : hp_M l B D s0 yX7_isProved cX7_isProved 5 (some .boolean) 3 192 0 0 [hp_v B o, .int a1, .int a2] Si (hp_Qi B D s0 (fun r S' => S' = Si ∧ Q r)) := by
  refine hp_start G (by decide +kernel) rfl rfl (lv := [(0, hp_v B o), (1, .int a1), (2, .int a2)]) (by simp [lg_sl, hp_vc, hp_ci, hp_cj]) (by simp [lv_args, hp_vc, hp_ci, hp_cj]) ?_
  intro p e s m args below meth c E ls hl hR
  generalize hH : s.heap = H at hR ⊢
  generalize hLo : ([] : List Loc) = locs at hR ⊢
  have b2 : ∀ (v3 : Int32) (H : Heap) (locs : List Loc) (ls : Array Slot), wl_X7_isProved_2 o a1 a2 v3 Si Q → lv_has ls 5 [(0, hp_v B o), (1, .int a1), (2, .int a2), (3, .int v3)] → hp_S B D s0 Si H locs → W p l e ({ frames := 3, cells := 0, slots := 0, locals := 192 } : Room) s m args below meth c H locs 0 0 (MQ below (hp_Qi B D s0 (fun r S' => S' = Si ∧ Q r)) args s 0 0 (fun q => B < q)) (F0 m 2 ls []) := by
    intro v3 H locs ls h hl hR
    obtain ⟨I2, μ2, hI, hst⟩ := h
    have key2 : ∀ (N : Nat) (v3 : Int32) (H : Heap) (locs : List Loc) (ls : Array Slot), μ2 v3 < N → I2 v3 → lv_has ls 5 [(0, hp_v B o), (1, .int a1), (2, .int a2), (3, .int v3)] → hp_S B D s0 Si H locs → W p l e ({ frames := 3, cells := 0, slots := 0, locals := 192 } : Room) s m args below meth c H locs 0 0 (MQ below (hp_Qi B D s0 (fun r S' => S' = Si ∧ Q r)) args s 0 0 (fun q => B < q)) (F0 m 2 ls []) := by
      intro N
      induction N with
      | zero =>
        intro v3 H locs ls hN
        exact absurd hN (Nat.not_lt_zero _)
      | succ N ih2 =>
        intro v3 H locs ls hN hI hl hR
        have h := hst v3 hI
        obtain ⟨K2, hKe2⟩ : ∃ K : Int32 → Prop, K = (fun v3' => I2 v3' ∧ μ2 v3' < μ2 v3) := ⟨_, rfl⟩
        rw [← hKe2] at h
        have hK2 : ∀ (v3' : Int32) (H : Heap) (locs : List Loc) (ls : Array Slot), K2 v3' → lv_has ls 5 [(0, hp_v B o), (1, .int a1), (2, .int a2), (3, .int (v3'))] → hp_S B D s0 Si H locs → W p l e ({ frames := 3, cells := 0, slots := 0, locals := 192 } : Room) s m args below meth c H locs 0 0 (MQ below (hp_Qi B D s0 (fun r S' => S' = Si ∧ Q r)) args s 0 0 (fun q => B < q)) (F0 m 2 ls []) := by
          intro v3' H locs ls hI hl hR
          rw [hKe2] at hI
          exact ih2 v3' H locs ls (Nat.lt_of_lt_of_le hI.2 (Nat.le_of_lt_succ hN)) hI.1 hl hR
        have b101 : ∀ (v3 : Int32) (H : Heap) (locs : List Loc) (ls : Array Slot), wb_X7_isProved_101 o a1 a2 v3 Si K2 Q → lv_has ls 5 [(0, hp_v B o), (1, .int a1), (2, .int a2), (3, .int v3)] → hp_S B D s0 Si H locs → W p l e ({ frames := 3, cells := 0, slots := 0, locals := 192 } : Room) s m args below meth c H locs 0 0 (MQ below (hp_Qi B D s0 (fun r S' => S' = Si ∧ Q r)) args s 0 0 (fun q => B < q)) (F0 m 101 ls []) := by
          intro v3 H locs ls h hl hR
          unfold wb_X7_isProved_101 at h
          refine hp_iinc E hl (v3 + (1 : Int32)) 3 (lv' := [(0, hp_v B o), (1, .int a1), (2, .int a2)]) dX7_isProved_101 (rfl : 101 + 3 = 104) rfl (by first | rfl | (congr 1)) (by decide) rfl (fun ls hl => ?_)
          refine hp_goto E (tgt := 2) dX7_isProved_104 (by decide) ?_
          exact hK2 _ _ _ _ h (lv_sub hl [1, 2, 3, 0] rfl) hR
        have b63 : ∀ (v3 : Int32) (t0 : Int32) (H : Heap) (locs : List Loc) (ls : Array Slot), wb_X7_isProved_63 o a1 a2 v3 t0 Si K2 Q → lv_has ls 5 [(0, hp_v B o), (1, .int a1), (2, .int a2), (3, .int v3)] → hp_S B D s0 Si H locs → W p l e ({ frames := 3, cells := 0, slots := 0, locals := 192 } : Room) s m args below meth c H locs 0 0 (MQ below (hp_Qi B D s0 (fun r S' => S' = Si ∧ Q r)) args s 0 0 (fun q => B < q)) (F0 m 63 ls [.int t0]) := by
          intro v3 t0 H locs ls h hl hR
          unfold wb_X7_isProved_63 at h
          refine hp_istore E hl 4 (lv' := [(0, hp_v B o), (1, .int a1), (2, .int a2), (3, .int v3)]) dX7_isProved_63 (rfl : 63 + 2 = 65) (by decide) rfl (fun ls hl => ?_)
          refine hp_iload E hl 0 rfl dX7_isProved_65 (rfl : 65 + 2 = 67) ?_
          refine hp_if_eq E dX7_isProved_67 (rfl : 67 + 3 = 70) (tgt := 101) (by decide) (fun hb => ?_) (fun hb => ?_)
          · have h := h.1 hb
            exact b101 _ _ _ _ h (lv_sub hl [1, 2, 3, 4] rfl) hR
          · have h := h.2 hb
            refine hp_aload_n E hl 0 rfl 1 rfl dX7_isProved_70 (rfl : 70 + 1 = 71) ?_
            refine hp_getR E hR in_X7 hc0 rfl 19 (Nat.le_of_ble_eq_true rfl) rfl q1280 (fun _ h => h) dX7_isProved_71 (rfl : 71 + 3 = 74) ?_
            refine hp_iload_n E hl 3 rfl 4 rfl dX7_isProved_74 (rfl : 74 + 1 = 75) ?_
            obtain ⟨hc6301, h⟩ := h
            obtain ⟨hi6302, h⟩ := h
            refine hp_iald E hR hc6301 hi6302 dX7_isProved_75 (rfl : 75 + 1 = 76) ?_
            refine hp_iload_n E hl 2 rfl 3 rfl dX7_isProved_76 (rfl : 76 + 1 = 77) ?_
            refine hp_iload_n E hl 2 rfl 3 rfl dX7_isProved_77 (rfl : 77 + 1 = 78) ?_
            refine hp_aload_n E hl 0 rfl 1 rfl dX7_isProved_78 (rfl : 78 + 1 = 79) ?_
            refine hp_getR E hR in_X7 hc0 rfl 40 (Nat.le_of_ble_eq_true rfl) rfl q1301 (fun _ h => h) dX7_isProved_79 (rfl : 79 + 3 = 82) ?_
            refine hp_iconst E (1 : Int32) (by decide) dX7_isProved_82 (rfl : 82 + 1 = 83) ?_
            obtain ⟨hc6303, h⟩ := h
            obtain ⟨hi6304, h⟩ := h
            refine hp_iald E hR hc6303 hi6304 dX7_isProved_83 (rfl : 83 + 1 = 84) ?_
            refine hp_iadd E dX7_isProved_84 (rfl : 84 + 1 = 85) ?_
            refine hp_fi (hp_rS E hR hl (m_X7_isIn G _ _ _ _ _ h) q1504 q1505 q82 q1506 nf_X7_isIn ⟨Nat.le_of_ble_eq_true rfl, Nat.le_of_ble_eq_true rfl⟩ (rest := []) rfl (Nat.le_of_ble_eq_true rfl) dX7_isProved_85 ⟨Nat.le_of_ble_eq_true rfl, Nat.le_of_ble_eq_true rfl⟩) hR (rfl : 85 + 3 = 88) (fun z6305 Sx H locs hq hR => ?_)
            obtain ⟨hSx, h⟩ := hq
            rw [hSx] at hR
            refine hp_if_eq E dX7_isProved_88 (rfl : 88 + 3 = 91) (tgt := 101) (by decide) (fun hb => ?_) (fun hb => ?_)
            · have h := h.1 hb
              exact b101 _ _ _ _ h (lv_sub hl [1, 2, 3, 4] rfl) hR
            · have h := h.2 hb
              refine hp_aload_n E hl 0 rfl 1 rfl dX7_isProved_91 (rfl : 91 + 1 = 92) ?_
              refine hp_iload_n E hl 3 rfl 4 rfl dX7_isProved_92 (rfl : 92 + 1 = 93) ?_
              refine hp_fi (hp_rV E hR hl (m_X7_isFalse G _ _ _ _ hc0 h) hc0 (ci := 6) rfl rfl q1589 q1591 qs54 q82 q1592 nf_X7_isFalse ⟨Nat.le_of_ble_eq_true rfl, Nat.le_of_ble_eq_true rfl⟩ (rest := []) rfl (Nat.le_of_ble_eq_true rfl) dX7_isProved_93 ⟨Nat.le_of_ble_eq_true rfl, Nat.le_of_ble_eq_true rfl⟩) hR (rfl : 93 + 3 = 96) (fun z6306 Sx H locs hq hR => ?_)
              obtain ⟨hSx, h⟩ := hq
              rw [hSx] at hR
              refine hp_if_ne E dX7_isProved_96 (rfl : 96 + 3 = 99) (tgt := 101) (by decide) (fun hb => ?_) (fun hb => ?_)
              · have h := h.1 hb
                refine hp_iconst E (1 : Int32) (by decide) dX7_isProved_99 (rfl : 99 + 1 = 100) ?_
                exact hp_zret E hR (Or.inr rfl) ⟨rfl, h⟩ (Nat.le_of_ble_eq_true rfl) (Nat.le_of_ble_eq_true rfl) dX7_isProved_100
              · have h := h.2 hb
                exact b101 _ _ _ _ h (lv_sub hl [1, 2, 3, 4] rfl) hR
        have b62 : ∀ (v3 : Int32) (H : Heap) (locs : List Loc) (ls : Array Slot), wb_X7_isProved_62 o a1 a2 v3 Si K2 Q → lv_has ls 5 [(0, hp_v B o), (1, .int a1), (2, .int a2), (3, .int v3)] → hp_S B D s0 Si H locs → W p l e ({ frames := 3, cells := 0, slots := 0, locals := 192 } : Room) s m args below meth c H locs 0 0 (MQ below (hp_Qi B D s0 (fun r S' => S' = Si ∧ Q r)) args s 0 0 (fun q => B < q)) (F0 m 62 ls []) := by
          intro v3 H locs ls h hl hR
          unfold wb_X7_isProved_62 at h
          refine hp_iconst E (0 : Int32) (by decide) dX7_isProved_62 (rfl : 62 + 1 = 63) ?_
          exact b63 _ _ _ _ _ h hl hR
        have b58 : ∀ (v3 : Int32) (H : Heap) (locs : List Loc) (ls : Array Slot), wb_X7_isProved_58 o a1 a2 v3 Si K2 Q → lv_has ls 5 [(0, hp_v B o), (1, .int a1), (2, .int a2), (3, .int v3)] → hp_S B D s0 Si H locs → W p l e ({ frames := 3, cells := 0, slots := 0, locals := 192 } : Room) s m args below meth c H locs 0 0 (MQ below (hp_Qi B D s0 (fun r S' => S' = Si ∧ Q r)) args s 0 0 (fun q => B < q)) (F0 m 58 ls []) := by
          intro v3 H locs ls h hl hR
          unfold wb_X7_isProved_58 at h
          refine hp_iconst E (1 : Int32) (by decide) dX7_isProved_58 (rfl : 58 + 1 = 59) ?_
          refine hp_goto E (tgt := 63) dX7_isProved_59 (by decide) ?_
          exact b63 _ _ _ _ _ h hl hR
        unfold wb_X7_isProved_2 at h
        refine hp_iload_n E hl 3 rfl 3 rfl dX7_isProved_2 (rfl : 2 + 1 = 3) ?_
        refine hp_aload_n E hl 0 rfl 0 rfl dX7_isProved_3 (rfl : 3 + 1 = 4) ?_
        refine hp_getI E hR in_X7 hc0 rfl 16 (Nat.le_of_ble_eq_true rfl) rfl q1277 (fun _ h => h) dX7_isProved_4 (rfl : 4 + 3 = 7) ?_
        refine hp_icmp_ge E dX7_isProved_7 (rfl : 7 + 3 = 10) (tgt := 107) (by decide) (fun hb => ?_) (fun hb => ?_)
        · have h := h.1 hb
          refine hp_aload_n E hl 0 rfl 0 rfl dX7_isProved_10 (rfl : 10 + 1 = 11) ?_
          refine hp_getR E hR in_X7 hc0 rfl 17 (Nat.le_of_ble_eq_true rfl) rfl q1278 (fun _ h => h) dX7_isProved_11 (rfl : 11 + 3 = 14) ?_
          refine hp_iload_n E hl 3 rfl 3 rfl dX7_isProved_14 (rfl : 14 + 1 = 15) ?_
          obtain ⟨hc201, h⟩ := h
          obtain ⟨hi202, h⟩ := h
          refine hp_iald E hR hc201 hi202 dX7_isProved_15 (rfl : 15 + 1 = 16) ?_
          refine hp_if_ne E dX7_isProved_16 (rfl : 16 + 3 = 19) (tgt := 62) (by decide) (fun hb => ?_) (fun hb => ?_)
          · have h := h.1 hb
            refine hp_aload_n E hl 0 rfl 0 rfl dX7_isProved_19 (rfl : 19 + 1 = 20) ?_
            refine hp_getR E hR in_X7 hc0 rfl 44 (Nat.le_of_ble_eq_true rfl) rfl q1305 (fun _ h => h) dX7_isProved_20 (rfl : 20 + 3 = 23) ?_
            refine hp_iload_n E hl 3 rfl 3 rfl dX7_isProved_23 (rfl : 23 + 1 = 24) ?_
            obtain ⟨hc203, h⟩ := h
            obtain ⟨hi204, h⟩ := h
            refine hp_zald E hR hc203 hi204 dX7_isProved_24 (rfl : 24 + 1 = 25) ?_
            refine hp_if_eq E dX7_isProved_25 (rfl : 25 + 3 = 28) (tgt := 62) (by decide) (fun hb => ?_) (fun hb => ?_)
            · have h := h.1 hb
              exact b62 _ _ _ _ h hl hR
            · have h := h.2 hb
              refine hp_aload_n E hl 0 rfl 0 rfl dX7_isProved_28 (rfl : 28 + 1 = 29) ?_
              refine hp_getR E hR in_X7 hc0 rfl 18 (Nat.le_of_ble_eq_true rfl) rfl q1279 (fun _ h => h) dX7_isProved_29 (rfl : 29 + 3 = 32) ?_
              refine hp_iload_n E hl 3 rfl 3 rfl dX7_isProved_32 (rfl : 32 + 1 = 33) ?_
              obtain ⟨hc205, h⟩ := h
              obtain ⟨hi206, h⟩ := h
              refine hp_iald E hR hc205 hi206 dX7_isProved_33 (rfl : 33 + 1 = 34) ?_
              refine hp_aload_n E hl 0 rfl 0 rfl dX7_isProved_34 (rfl : 34 + 1 = 35) ?_
              refine hp_getR E hR in_X7 hc0 rfl 10 (Nat.le_of_ble_eq_true rfl) rfl q1271 (fun _ h => h) dX7_isProved_35 (rfl : 35 + 3 = 38) ?_
              refine hp_iload_n E hl 1 rfl 1 rfl dX7_isProved_38 (rfl : 38 + 1 = 39) ?_
              obtain ⟨hc207, h⟩ := h
              obtain ⟨hi208, h⟩ := h
              refine hp_iald E hR hc207 hi208 dX7_isProved_39 (rfl : 39 + 1 = 40) ?_
              refine hp_icmp_eq E dX7_isProved_40 (rfl : 40 + 3 = 43) (tgt := 58) (by decide) (fun hb => ?_) (fun hb => ?_)
              · have h := h.1 hb
                exact b58 _ _ _ _ h hl hR
              · have h := h.2 hb
                refine hp_aload_n E hl 0 rfl 0 rfl dX7_isProved_43 (rfl : 43 + 1 = 44) ?_
                refine hp_getR E hR in_X7 hc0 rfl 18 (Nat.le_of_ble_eq_true rfl) rfl q1279 (fun _ h => h) dX7_isProved_44 (rfl : 44 + 3 = 47) ?_
                refine hp_iload_n E hl 3 rfl 3 rfl dX7_isProved_47 (rfl : 47 + 1 = 48) ?_
                obtain ⟨hi209, h⟩ := h
                refine hp_iald E hR hc205 hi209 dX7_isProved_48 (rfl : 48 + 1 = 49) ?_
                refine hp_aload_n E hl 0 rfl 0 rfl dX7_isProved_49 (rfl : 49 + 1 = 50) ?_
                refine hp_getR E hR in_X7 hc0 rfl 11 (Nat.le_of_ble_eq_true rfl) rfl q1272 (fun _ h => h) dX7_isProved_50 (rfl : 50 + 3 = 53) ?_
                refine hp_iload_n E hl 1 rfl 1 rfl dX7_isProved_53 (rfl : 53 + 1 = 54) ?_
                obtain ⟨hc210, h⟩ := h
                obtain ⟨hi211, h⟩ := h
                refine hp_iald E hR hc210 hi211 dX7_isProved_54 (rfl : 54 + 1 = 55) ?_
                refine hp_icmp_ne E dX7_isProved_55 (rfl : 55 + 3 = 58) (tgt := 62) (by decide) (fun hb => ?_) (fun hb => ?_)
                · have h := h.1 hb
                  exact b58 _ _ _ _ h hl hR
                · have h := h.2 hb
                  exact b62 _ _ _ _ h hl hR
          · have h := h.2 hb
            exact b62 _ _ _ _ h hl hR
        · have h := h.2 hb
          refine hp_iconst E (0 : Int32) (by decide) dX7_isProved_107 (rfl : 107 + 1 = 108) ?_
          exact hp_zret E hR (Or.inl rfl) ⟨rfl, h⟩ (Nat.le_of_ble_eq_true rfl) (Nat.le_of_ble_eq_true rfl) dX7_isProved_108
    exact key2 (μ2 v3 + 1) v3 H locs ls (Nat.lt_succ_self _) hI hl hR
  unfold wp_X7_isProved at h
  refine hp_iconst E (0 : Int32) (by decide) dX7_isProved_0 (rfl : 0 + 1 = 1) ?_
  refine hp_istore_n E hl 3 rfl (lv' := [(0, hp_v B o), (1, .int a1), (2, .int a2)]) dX7_isProved_1 (rfl : 1 + 1 = 2) (by decide) rfl (fun ls hl => ?_)
  exact b2 _ _ _ _ h (lv_sub hl [1, 2, 3, 0] rfl) hR
def wb_X7_shares_79 (o : Nat) (a1 : Int32) (a2 : Int32) (v3 : Int32) (v4 : Int32) (v5 : Int32) (v6 : Int32) (S : hp_St) (K16 : Int32 → Int32 → Int32 → Int32 → hp_St → Prop) (Q : hp_St → Prop) : Prop := K16 v3 v4 v5 (v6 + (1 : Int32)) S
def wb_X7_shares_16 (o : Nat) (a1 : Int32) (a2 : Int32) (v3 : Int32) (v4 : Int32) (v5 : Int32) (v6 : Int32) (S : hp_St) (K16 : Int32 → Int32 → Int32 → Int32 → hp_St → Prop) (Q : hp_St → Prop) : Prop := (((v6 < (8 : Int32)) → wp_X7_partsOf o a1 v6 a2 S (fun z1601 => (st_C S (st_R S o 12) = 50) ∧ (vp_in a1 (st_L S (st_R S o 12))) ∧ (st_C S (st_R S o 47) = 50) ∧ (vp_in v6 (st_L S (st_R S o 47))) ∧ (vp_in v6 (st_L S (st_R S o 47))) ∧ (∀ S1607, S1607 = st_pI S (st_R S o 47) v6.toNatClampNeg ((st_I S (st_R S o 47) v6.toNatClampNeg) + (((st_I S (st_R S o 12) a1.toNatClampNeg) * z1601) / (60 : Int32))) → (((z1601 ≤ v4) → wb_X7_shares_79 o a1 a2 (v3 - (((st_I S (st_R S o 12) a1.toNatClampNeg) * z1601) / (60 : Int32))) v4 v5 v6 S1607 K16 Q) ∧ ((¬ (z1601 ≤ v4)) → wb_X7_shares_79 o a1 a2 (v3 - (((st_I S (st_R S o 12) a1.toNatClampNeg) * z1601) / (60 : Int32))) z1601 v6 v6 S1607 K16 Q))))) ∧ ((¬ (v6 < (8 : Int32))) → (st_C S (st_R S o 47) = 50) ∧ (vp_in v5 (st_L S (st_R S o 47))) ∧ (vp_in v5 (st_L S (st_R S o 47))) ∧ (∀ S1613, S1613 = st_pI S (st_R S o 47) v5.toNatClampNeg ((st_I S (st_R S o 47) v5.toNatClampNeg) + v3) → (st_C S1613 (st_R S1613 o 12) = 50) ∧ (vp_in a1 (st_L S1613 (st_R S1613 o 12))) ∧ (∀ S1618, S1618 = st_pI S1613 o 48 ((st_I S1613 o 48) + (st_I S1613 (st_R S1613 o 12) a1.toNatClampNeg)) → Q S1618))))
def wl_X7_shares_16 (o : Nat) (a1 : Int32) (a2 : Int32) (v3 : Int32) (v4 : Int32) (v5 : Int32) (v6 : Int32) (S : hp_St) (Q : hp_St → Prop) : Prop := ∃ (I : Int32 → Int32 → Int32 → Int32 → hp_St → Prop) (μ : Int32 → Int32 → Int32 → Int32 → hp_St → Nat), I v3 v4 v5 v6 S ∧ ∀ (v3 : Int32) (v4 : Int32) (v5 : Int32) (v6 : Int32) (S1 : hp_St), hp_mono S S1 → I v3 v4 v5 v6 S1 → wb_X7_shares_16 o a1 a2 v3 v4 v5 v6 S1 (fun v3' v4' v5' v6' S2 => I v3' v4' v5' v6' S2 ∧ μ v3' v4' v5' v6' S2 < μ v3 v4 v5 v6 S1) Q
def wp_X7_shares (o : Nat) (a1 : Int32) (a2 : Int32) (S : hp_St) (Q : hp_St → Prop) : Prop := (st_C S (st_R S o 12) = 50) ∧ (vp_in a1 (st_L S (st_R S o 12))) ∧ wl_X7_shares_16 o a1 a2 (st_I S (st_R S o 12) a1.toNatClampNeg) (0 : Int32) (0 : Int32) (0 : Int32) S Q
theorem nf_X7_shares : hp_nf yX7_shares 2 = true := by decide +kernel
set_option maxHeartbeats 4000000 in
theorem m_X7_shares {l : Launch} {B : Nat} {D : va_G} {s0 : State} {b0 : Nat} (G : hp_G l B D s0 b0) (o : Nat) (a1 : Int32) (a2 : Int32) (Si : hp_St) (Q : hp_St → Prop) (hc0 : st_C Si o = 7) (h : wp_X7_shares o a1 a2 Si Q) : hp_M l B D s0 yX7_shares cX7_shares 9 none 3 192 0 0 [hp_v B o, .int a1, .int a2] Si (hp_Qv B D s0 (fun S' => hp_mono Si S' ∧ Q S')) := by
  refine hp_start G (by decide +kernel) rfl rfl (lv := [(0, hp_v B o), (1, .int a1), (2, .int a2)]) (by simp [lg_sl, hp_vc, hp_ci, hp_cj]) (by simp [lv_args, hp_vc, hp_ci, hp_cj]) ?_
  intro p e s m args below meth c E ls hl hR
  have hm : hp_mono Si Si := hp_mono.rf
  generalize hH : s.heap = H at hR ⊢
  generalize hLo : ([] : List Loc) = locs at hR ⊢
  have b16 : ∀ (v3 : Int32) (v4 : Int32) (v5 : Int32) (v6 : Int32) (S : hp_St) (H : Heap) (locs : List Loc) (ls : Array Slot), wl_X7_shares_16 o a1 a2 v3 v4 v5 v6 S Q → lv_has ls 9 [(0, hp_v B o), (1, .int a1), (2, .int a2), (3, .int v3), (4, .int v4), (5, .int v5), (6, .int v6)] → hp_S B D s0 S H locs → hp_mono Si S → W p l e ({ frames := 3, cells := 0, slots := 0, locals := 192 } : Room) s m args below meth c H locs 0 0 (MQ below (hp_Qv B D s0 (fun S' => hp_mono Si S' ∧ Q S')) args s 0 0 (fun q => B < q)) (F0 m 16 ls []) := by
    intro v3 v4 v5 v6 S H locs ls h hl hR hm
    obtain ⟨I16, μ16, hI, hst⟩ := h
    obtain ⟨Sa16, eSa16⟩ : ∃ x, x = S := ⟨_, rfl⟩
    subst eSa16
    have key16 : ∀ (N : Nat) (v3 : Int32) (v4 : Int32) (v5 : Int32) (v6 : Int32) (Su16 : hp_St) (H : Heap) (locs : List Loc) (ls : Array Slot), μ16 v3 v4 v5 v6 Su16 < N → I16 v3 v4 v5 v6 Su16 → lv_has ls 9 [(0, hp_v B o), (1, .int a1), (2, .int a2), (3, .int v3), (4, .int v4), (5, .int v5), (6, .int v6)] → hp_S B D s0 Su16 H locs → hp_mono Sa16 Su16 → W p l e ({ frames := 3, cells := 0, slots := 0, locals := 192 } : Room) s m args below meth c H locs 0 0 (MQ below (hp_Qv B D s0 (fun S' => hp_mono Si S' ∧ Q S')) args s 0 0 (fun q => B < q)) (F0 m 16 ls []) := by
      intro N
      induction N with
      | zero =>
        intro v3 v4 v5 v6 Su16 H locs ls hN
        exact absurd hN (Nat.not_lt_zero _)
      | succ N ih16 =>
        intro v3 v4 v5 v6 Su16 H locs ls hN hI hl hR ms16
        have h := hst v3 v4 v5 v6 Su16 ms16 hI
        have hm := hp_mono.tr hm ms16
        obtain ⟨K16, hKe16⟩ : ∃ K : Int32 → Int32 → Int32 → Int32 → hp_St → Prop, K = (fun v3' v4' v5' v6' Sk => I16 v3' v4' v5' v6' Sk ∧ μ16 v3' v4' v5' v6' Sk < μ16 v3 v4 v5 v6 Su16) := ⟨_, rfl⟩
        rw [← hKe16] at h
        have hK16 : ∀ (v3' : Int32) (v4' : Int32) (v5' : Int32) (v6' : Int32) (Sk : hp_St) (H : Heap) (locs : List Loc) (ls : Array Slot), K16 v3' v4' v5' v6' Sk → lv_has ls 9 [(0, hp_v B o), (1, .int a1), (2, .int a2), (3, .int (v3')), (4, .int (v4')), (5, .int (v5')), (6, .int (v6'))] → hp_S B D s0 Sk H locs → hp_mono Sa16 Sk → W p l e ({ frames := 3, cells := 0, slots := 0, locals := 192 } : Room) s m args below meth c H locs 0 0 (MQ below (hp_Qv B D s0 (fun S' => hp_mono Si S' ∧ Q S')) args s 0 0 (fun q => B < q)) (F0 m 16 ls []) := by
          intro v3' v4' v5' v6' Sk H locs ls hI hl hR ms
          rw [hKe16] at hI
          exact ih16 v3' v4' v5' v6' Sk H locs ls (Nat.lt_of_lt_of_le hI.2 (Nat.le_of_lt_succ hN)) hI.1 hl hR ms
        have b79 : ∀ (v3 : Int32) (v4 : Int32) (v5 : Int32) (v6 : Int32) (S : hp_St) (H : Heap) (locs : List Loc) (ls : Array Slot), wb_X7_shares_79 o a1 a2 v3 v4 v5 v6 S K16 Q → lv_has ls 9 [(0, hp_v B o), (1, .int a1), (2, .int a2), (3, .int v3), (4, .int v4), (5, .int v5), (6, .int v6)] → hp_S B D s0 S H locs → hp_mono Si S → hp_mono Sa16 S → W p l e ({ frames := 3, cells := 0, slots := 0, locals := 192 } : Room) s m args below meth c H locs 0 0 (MQ below (hp_Qv B D s0 (fun S' => hp_mono Si S' ∧ Q S')) args s 0 0 (fun q => B < q)) (F0 m 79 ls []) := by
          intro v3 v4 v5 v6 S H locs ls h hl hR hm ms16
          unfold wb_X7_shares_79 at h
          refine hp_iinc E hl (v6 + (1 : Int32)) 6 (lv' := [(0, hp_v B o), (1, .int a1), (2, .int a2), (3, .int v3), (4, .int v4), (5, .int v5)]) dX7_shares_79 (rfl : 79 + 3 = 82) rfl (by first | rfl | (congr 1)) (by decide) rfl (fun ls hl => ?_)
          refine hp_goto E (tgt := 16) dX7_shares_82 (by decide) ?_
          exact hK16 _ _ _ _ _ _ _ _ h (lv_sub hl [1, 2, 3, 4, 5, 6, 0] rfl) hR ms16
        unfold wb_X7_shares_16 at h
        refine hp_iload E hl 6 rfl dX7_shares_16 (rfl : 16 + 2 = 18) ?_
        refine hp_bipush E (8 : Int32) (by decide) dX7_shares_18 (rfl : 18 + 2 = 20) ?_
        refine hp_icmp_ge E dX7_shares_20 (rfl : 20 + 3 = 23) (tgt := 85) (by decide) (fun hb => ?_) (fun hb => ?_)
        · have h := h.1 hb
          refine hp_aload_n E hl 0 rfl 0 rfl dX7_shares_23 (rfl : 23 + 1 = 24) ?_
          refine hp_iload_n E hl 1 rfl 1 rfl dX7_shares_24 (rfl : 24 + 1 = 25) ?_
          refine hp_iload E hl 6 rfl dX7_shares_25 (rfl : 25 + 2 = 27) ?_
          refine hp_iload_n E hl 2 rfl 2 rfl dX7_shares_27 (rfl : 27 + 1 = 28) ?_
          refine hp_fi (hp_rV E hR hl (m_X7_partsOf G _ _ _ _ _ _ (hp_mono.c hm hc0) h) (hp_mono.c hm hc0) (ci := 6) rfl rfl q1554 q1556 qs51 q82 q1557 nf_X7_partsOf ⟨Nat.le_of_ble_eq_true rfl, Nat.le_of_ble_eq_true rfl⟩ (rest := []) rfl (Nat.le_of_ble_eq_true rfl) dX7_shares_28 ⟨Nat.le_of_ble_eq_true rfl, Nat.le_of_ble_eq_true rfl⟩) hR (rfl : 28 + 3 = 31) (fun z1601 Sx H locs hq hR => ?_)
          obtain ⟨hSx, h⟩ := hq
          rw [hSx] at hR
          refine hp_istore E hl 7 (lv' := [(0, hp_v B o), (1, .int a1), (2, .int a2), (3, .int v3), (4, .int v4), (5, .int v5), (6, .int v6)]) dX7_shares_31 (rfl : 31 + 2 = 33) (by decide) rfl (fun ls hl => ?_)
          refine hp_aload_n E hl 0 rfl 1 rfl dX7_shares_33 (rfl : 33 + 1 = 34) ?_
          refine hp_getR E hR in_X7 (hp_mono.c hm hc0) rfl 12 (Nat.le_of_ble_eq_true rfl) rfl q1273 (fun _ h => h) dX7_shares_34 (rfl : 34 + 3 = 37) ?_
          refine hp_iload_n E hl 1 rfl 2 rfl dX7_shares_37 (rfl : 37 + 1 = 38) ?_
          obtain ⟨hc1602, h⟩ := h
          obtain ⟨hi1603, h⟩ := h
          refine hp_iald E hR hc1602 hi1603 dX7_shares_38 (rfl : 38 + 1 = 39) ?_
          refine hp_iload E hl 0 rfl dX7_shares_39 (rfl : 39 + 2 = 41) ?_
          refine hp_imul E dX7_shares_41 (rfl : 41 + 1 = 42) ?_
          refine hp_bipush E (60 : Int32) (by decide) dX7_shares_42 (rfl : 42 + 2 = 44) ?_
          refine hp_idiv E (by decide) dX7_shares_44 (rfl : 44 + 1 = 45) ?_
          refine hp_istore E hl 8 (lv' := [(7, .int z1601), (0, hp_v B o), (1, .int a1), (2, .int a2), (3, .int v3), (4, .int v4), (5, .int v5), (6, .int v6)]) dX7_shares_45 (rfl : 45 + 2 = 47) (by decide) rfl (fun ls hl => ?_)
          refine hp_aload_n E hl 0 rfl 2 rfl dX7_shares_47 (rfl : 47 + 1 = 48) ?_
          refine hp_getR E hR in_X7 (hp_mono.c hm hc0) rfl 47 (Nat.le_of_ble_eq_true rfl) rfl q1308 (fun _ h => h) dX7_shares_48 (rfl : 48 + 3 = 51) ?_
          refine hp_iload E hl 8 rfl dX7_shares_51 (rfl : 51 + 2 = 53) ?_
          refine hp_dup2 E rfl hp_vc dX7_shares_53 (rfl : 53 + 1 = 54) ?_
          obtain ⟨hc1604, h⟩ := h
          obtain ⟨hi1605, h⟩ := h
          refine hp_iald E hR hc1604 hi1605 dX7_shares_54 (rfl : 54 + 1 = 55) ?_
          refine hp_iload E hl 0 rfl dX7_shares_55 (rfl : 55 + 2 = 57) ?_
          refine hp_iadd E dX7_shares_57 (rfl : 57 + 1 = 58) ?_
          obtain ⟨hi1606, h⟩ := h
          refine hx_iast E hR hc1604 hi1606 dX7_shares_58 (rfl : 58 + 1 = 59) (fun S1607 H locs e1609 hm1608 hR => ?_)
          have h := h S1607 e1609
          have hm := hp_mono.tr hm hm1608
          have ms16 := hp_mono.tr ms16 hm1608
          refine hp_iload_n E hl 3 rfl 5 rfl dX7_shares_59 (rfl : 59 + 1 = 60) ?_
          refine hp_iload E hl 0 rfl dX7_shares_60 (rfl : 60 + 2 = 62) ?_
          refine hp_isub E dX7_shares_62 (rfl : 62 + 1 = 63) ?_
          refine hp_istore_n E hl 3 rfl (lv' := [(8, .int (((st_I Su16 (st_R Su16 o 12) a1.toNatClampNeg) * z1601) / (60 : Int32))), (7, .int z1601), (0, hp_v B o), (1, .int a1), (2, .int a2), (4, .int v4), (5, .int v5), (6, .int v6)]) dX7_shares_63 (rfl : 63 + 1 = 64) (by decide) rfl (fun ls hl => ?_)
          refine hp_iload E hl 2 rfl dX7_shares_64 (rfl : 64 + 2 = 66) ?_
          refine hp_iload E hl 6 rfl dX7_shares_66 (rfl : 66 + 2 = 68) ?_
          refine hp_icmp_le E dX7_shares_68 (rfl : 68 + 3 = 71) (tgt := 79) (by decide) (fun hb => ?_) (fun hb => ?_)
          · have h := h.1 hb
            exact b79 _ _ _ _ _ _ _ _ h (lv_sub hl [3, 4, 5, 0, 6, 7, 8] rfl) hR hm ms16
          · have h := h.2 hb
            refine hp_iload E hl 2 rfl dX7_shares_71 (rfl : 71 + 2 = 73) ?_
            refine hp_istore E hl 4 (lv' := [(3, .int (v3 - (((st_I Su16 (st_R Su16 o 12) a1.toNatClampNeg) * z1601) / (60 : Int32)))), (8, .int (((st_I Su16 (st_R Su16 o 12) a1.toNatClampNeg) * z1601) / (60 : Int32))), (7, .int z1601), (0, hp_v B o), (1, .int a1), (2, .int a2), (5, .int v5), (6, .int v6)]) dX7_shares_73 (rfl : 73 + 2 = 75) (by decide) rfl (fun ls hl => ?_)
            refine hp_iload E hl 8 rfl dX7_shares_75 (rfl : 75 + 2 = 77) ?_
            refine hp_istore E hl 5 (lv' := [(4, .int z1601), (3, .int (v3 - (((st_I Su16 (st_R Su16 o 12) a1.toNatClampNeg) * z1601) / (60 : Int32)))), (8, .int (((st_I Su16 (st_R Su16 o 12) a1.toNatClampNeg) * z1601) / (60 : Int32))), (7, .int z1601), (0, hp_v B o), (1, .int a1), (2, .int a2), (6, .int v6)]) dX7_shares_77 (rfl : 77 + 2 = 79) (by decide) rfl (fun ls hl => ?_)
            exact b79 _ _ _ _ _ _ _ _ h (lv_sub hl [5, 6, 7, 2, 1, 0, 8] rfl) hR hm ms16
        · have h := h.2 hb
          refine hp_aload_n E hl 0 rfl 0 rfl dX7_shares_85 (rfl : 85 + 1 = 86) ?_
          refine hp_getR E hR in_X7 (hp_mono.c hm hc0) rfl 47 (Nat.le_of_ble_eq_true rfl) rfl q1308 (fun _ h => h) dX7_shares_86 (rfl : 86 + 3 = 89) ?_
          refine hp_iload E hl 5 rfl dX7_shares_89 (rfl : 89 + 2 = 91) ?_
          refine hp_dup2 E rfl hp_vc dX7_shares_91 (rfl : 91 + 1 = 92) ?_
          obtain ⟨hc1610, h⟩ := h
          obtain ⟨hi1611, h⟩ := h
          refine hp_iald E hR hc1610 hi1611 dX7_shares_92 (rfl : 92 + 1 = 93) ?_
          refine hp_iload_n E hl 3 rfl 3 rfl dX7_shares_93 (rfl : 93 + 1 = 94) ?_
          refine hp_iadd E dX7_shares_94 (rfl : 94 + 1 = 95) ?_
          obtain ⟨hi1612, h⟩ := h
          refine hx_iast E hR hc1610 hi1612 dX7_shares_95 (rfl : 95 + 1 = 96) (fun S1613 H locs e1615 hm1614 hR => ?_)
          have h := h S1613 e1615
          have hm := hp_mono.tr hm hm1614
          have ms16 := hp_mono.tr ms16 hm1614
          refine hp_aload_n E hl 0 rfl 0 rfl dX7_shares_96 (rfl : 96 + 1 = 97) ?_
          refine hp_dup E hp_vc dX7_shares_97 (rfl : 97 + 1 = 98) ?_
          refine hp_getI E hR in_X7 (hp_mono.c hm hc0) rfl 48 (Nat.le_of_ble_eq_true rfl) rfl q1309 (fun _ h => h) dX7_shares_98 (rfl : 98 + 3 = 101) ?_
          refine hp_aload_n E hl 0 rfl 0 rfl dX7_shares_101 (rfl : 101 + 1 = 102) ?_
          refine hp_getR E hR in_X7 (hp_mono.c hm hc0) rfl 12 (Nat.le_of_ble_eq_true rfl) rfl q1273 (fun _ h => h) dX7_shares_102 (rfl : 102 + 3 = 105) ?_
          refine hp_iload_n E hl 1 rfl 1 rfl dX7_shares_105 (rfl : 105 + 1 = 106) ?_
          obtain ⟨hc1616, h⟩ := h
          obtain ⟨hi1617, h⟩ := h
          refine hp_iald E hR hc1616 hi1617 dX7_shares_106 (rfl : 106 + 1 = 107) ?_
          refine hp_iadd E dX7_shares_107 (rfl : 107 + 1 = 108) ?_
          refine hx_putI E hR in_X7 tyX7 tyX7_ok nmX7 (hp_mono.c hm hc0) rfl 48 (Nat.le_of_ble_eq_true rfl) rfl q1309 (fun _ h => h) (Or.inl rfl) (Or.inl rfl) dX7_shares_108 (rfl : 108 + 3 = 111) (fun S1618 H locs e1620 hm1619 hR => ?_)
          have h := h S1618 e1620
          have hm := hp_mono.tr hm hm1619
          have ms16 := hp_mono.tr ms16 hm1619
          exact hp_vret E hR ⟨hm, h⟩ (Nat.le_of_ble_eq_true rfl) (Nat.le_of_ble_eq_true rfl) dX7_shares_111
    exact key16 (μ16 v3 v4 v5 v6 Sa16 + 1) v3 v4 v5 v6 _ H locs ls (Nat.lt_succ_self _) hI hl hR hp_mono.rf
  unfold wp_X7_shares at h
  refine hp_aload_n E hl 0 rfl 0 rfl dX7_shares_0 (rfl : 0 + 1 = 1) ?_
  refine hp_getR E hR in_X7 hc0 rfl 12 (Nat.le_of_ble_eq_true rfl) rfl q1273 (fun _ h => h) dX7_shares_1 (rfl : 1 + 3 = 4) ?_
  refine hp_iload_n E hl 1 rfl 1 rfl dX7_shares_4 (rfl : 4 + 1 = 5) ?_
  obtain ⟨hc1, h⟩ := h
  obtain ⟨hi2, h⟩ := h
  refine hp_iald E hR hc1 hi2 dX7_shares_5 (rfl : 5 + 1 = 6) ?_
  refine hp_istore_n E hl 3 rfl (lv' := [(0, hp_v B o), (1, .int a1), (2, .int a2)]) dX7_shares_6 (rfl : 6 + 1 = 7) (by decide) rfl (fun ls hl => ?_)
  refine hp_iconst E (0 : Int32) (by decide) dX7_shares_7 (rfl : 7 + 1 = 8) ?_
  refine hp_istore E hl 4 (lv' := [(3, .int (st_I Si (st_R Si o 12) a1.toNatClampNeg)), (0, hp_v B o), (1, .int a1), (2, .int a2)]) dX7_shares_8 (rfl : 8 + 2 = 10) (by decide) rfl (fun ls hl => ?_)
  refine hp_iconst E (0 : Int32) (by decide) dX7_shares_10 (rfl : 10 + 1 = 11) ?_
  refine hp_istore E hl 5 (lv' := [(4, .int (0 : Int32)), (3, .int (st_I Si (st_R Si o 12) a1.toNatClampNeg)), (0, hp_v B o), (1, .int a1), (2, .int a2)]) dX7_shares_11 (rfl : 11 + 2 = 13) (by decide) rfl (fun ls hl => ?_)
  refine hp_iconst E (0 : Int32) (by decide) dX7_shares_13 (rfl : 13 + 1 = 14) ?_
  refine hp_istore E hl 6 (lv' := [(5, .int (0 : Int32)), (4, .int (0 : Int32)), (3, .int (st_I Si (st_R Si o 12) a1.toNatClampNeg)), (0, hp_v B o), (1, .int a1), (2, .int a2)]) dX7_shares_14 (rfl : 14 + 2 = 16) (by decide) rfl (fun ls hl => ?_)
  exact b16 _ _ _ _ _ _ _ _ h (lv_sub hl [4, 5, 6, 3, 2, 1, 0] rfl) hR hm
def wb_X7_pays_159 (o : Nat) (a1 : Int32) (v2 : Int32) (v3 : Int32) (v4 : Int32) (S : hp_St) (K50 : Int32 → hp_St → Prop) (K62 : Int32 → hp_St → Prop) (K95 : Int32 → hp_St → Prop) (Q : hp_St → Prop) : Prop := K95 (v4 + (1 : Int32)) S
def wb_X7_pays_95 (o : Nat) (a1 : Int32) (v2 : Int32) (v3 : Int32) (v4 : Int32) (S : hp_St) (K50 : Int32 → hp_St → Prop) (K62 : Int32 → hp_St → Prop) (K95 : Int32 → hp_St → Prop) (Q : hp_St → Prop) : Prop := (((v4 ≤ v2) → (st_C S (st_R S o 46) = 50) ∧ (vp_in (((80 : Int32) * v3) + v4) (st_L S (st_R S o 46))) ∧ ((((st_I S (st_R S o 46) (((80 : Int32) * v3) + v4).toNatClampNeg) = (-1 : Int32)) → wp_X7_isDue o v3 v4 S (fun z9503 => (((z9503 = 0) → wb_X7_pays_159 o a1 v2 v3 v4 S K50 K62 K95 Q) ∧ ((¬ (z9503 = 0)) → wp_X7_isProved o v3 v4 S (fun z9504 => (((z9504 = 0) → wb_X7_pays_159 o a1 v2 v3 v4 S K50 K62 K95 Q) ∧ ((¬ (z9504 = 0)) → (vp_in (((80 : Int32) * v3) + v4) (st_L S (st_R S o 46))) ∧ (∀ S9506, S9506 = st_pI S (st_R S o 46) (((80 : Int32) * v3) + v4).toNatClampNeg v2 → wp_X7_shares o v3 v2 S9506 (fun S9509 => hp_mono S9506 S9509 → wb_X7_pays_159 o a1 v2 v3 v4 S9509 K50 K62 K95 Q))))))))) ∧ ((¬ ((st_I S (st_R S o 46) (((80 : Int32) * v3) + v4).toNatClampNeg) = (-1 : Int32))) → wb_X7_pays_159 o a1 v2 v3 v4 S K50 K62 K95 Q))) ∧ ((¬ (v4 ≤ v2)) → K62 (v3 + (1 : Int32)) S))
def wl_X7_pays_95 (o : Nat) (a1 : Int32) (v2 : Int32) (v3 : Int32) (v4 : Int32) (S : hp_St) (K50 : Int32 → hp_St → Prop) (K62 : Int32 → hp_St → Prop) (Q : hp_St → Prop) : Prop := ∃ (I : Int32 → hp_St → Prop) (μ : Int32 → hp_St → Nat), I v4 S ∧ ∀ (v4 : Int32) (S1 : hp_St), hp_mono S S1 → I v4 S1 → wb_X7_pays_95 o a1 v2 v3 v4 S1 K50 K62 (fun v4' S2 => I v4' S2 ∧ μ v4' S2 < μ v4 S1) Q
def wb_X7_pays_93 (o : Nat) (a1 : Int32) (v2 : Int32) (v3 : Int32) (t0 : Int32) (S : hp_St) (K50 : Int32 → hp_St → Prop) (K62 : Int32 → hp_St → Prop) (Q : hp_St → Prop) : Prop := wl_X7_pays_95 o a1 v2 v3 t0 S K50 K62 Q
def wb_X7_pays_62 (o : Nat) (a1 : Int32) (v2 : Int32) (v3 : Int32) (S : hp_St) (K50 : Int32 → hp_St → Prop) (K62 : Int32 → hp_St → Prop) (Q : hp_St → Prop) : Prop := (((v3 < (st_I S o 7)) → (st_C S (st_R S o 40) = 50) ∧ (vp_in (0 : Int32) (st_L S (st_R S o 40))) ∧ ((((v2 - (st_I S (st_R S o 40) (0 : Int32).toNatClampNeg)) < 0) → wb_X7_pays_93 o a1 v2 v3 (0 : Int32) S K50 K62 Q) ∧ ((¬ ((v2 - (st_I S (st_R S o 40) (0 : Int32).toNatClampNeg)) < 0)) → (vp_in (0 : Int32) (st_L S (st_R S o 40))) ∧ wb_X7_pays_93 o a1 v2 v3 (v2 - (st_I S (st_R S o 40) (0 : Int32).toNatClampNeg)) S K50 K62 Q))) ∧ ((¬ (v3 < (st_I S o 7))) → K50 (v2 + (1 : Int32)) S))
def wl_X7_pays_62 (o : Nat) (a1 : Int32) (v2 : Int32) (v3 : Int32) (S : hp_St) (K50 : Int32 → hp_St → Prop) (Q : hp_St → Prop) : Prop := ∃ (I : Int32 → hp_St → Prop) (μ : Int32 → hp_St → Nat), I v3 S ∧ ∀ (v3 : Int32) (S1 : hp_St), hp_mono S S1 → I v3 S1 → wb_X7_pays_62 o a1 v2 v3 S1 K50 (fun v3' S2 => I v3' S2 ∧ μ v3' S2 < μ v3 S1) Q
def wb_X7_pays_50 (o : Nat) (a1 : Int32) (v2 : Int32) (S : hp_St) (K50 : Int32 → hp_St → Prop) (Q : hp_St → Prop) : Prop := (((v2 ≤ a1) → wp_X7_know o v2 S (fun S5001 => hp_mono S S5001 → wl_X7_pays_62 o a1 v2 (0 : Int32) S5001 K50 Q)) ∧ ((¬ (v2 ≤ a1)) → Q S))
def wl_X7_pays_50 (o : Nat) (a1 : Int32) (v2 : Int32) (S : hp_St) (Q : hp_St → Prop) : Prop := ∃ (I : Int32 → hp_St → Prop) (μ : Int32 → hp_St → Nat), I v2 S ∧ ∀ (v2 : Int32) (S1 : hp_St), hp_mono S S1 → I v2 S1 → wb_X7_pays_50 o a1 v2 S1 (fun v2' S2 => I v2' S2 ∧ μ v2' S2 < μ v2 S1) Q
def wb_X7_pays_24 (o : Nat) (a1 : Int32) (v2 : Int32) (S : hp_St) (K24 : Int32 → hp_St → Prop) (Q : hp_St → Prop) : Prop := (((v2 < (8 : Int32)) → (st_C S (st_R S o 47) = 50) ∧ (vp_in v2 (st_L S (st_R S o 47))) ∧ (∀ S2403, S2403 = st_pI S (st_R S o 47) v2.toNatClampNeg (0 : Int32) → K24 (v2 + (1 : Int32)) S2403)) ∧ ((¬ (v2 < (8 : Int32))) → (∀ S2406, S2406 = st_pI S o 48 (0 : Int32) → wl_X7_pays_50 o a1 (0 : Int32) S2406 Q)))
def wl_X7_pays_24 (o : Nat) (a1 : Int32) (v2 : Int32) (S : hp_St) (Q : hp_St → Prop) : Prop := ∃ (I : Int32 → hp_St → Prop) (μ : Int32 → hp_St → Nat), I v2 S ∧ ∀ (v2 : Int32) (S1 : hp_St), hp_mono S S1 → I v2 S1 → wb_X7_pays_24 o a1 v2 S1 (fun v2' S2 => I v2' S2 ∧ μ v2' S2 < μ v2 S1) Q
def wb_X7_pays_2 (o : Nat) (a1 : Int32) (v2 : Int32) (S : hp_St) (K2 : Int32 → hp_St → Prop) (Q : hp_St → Prop) : Prop := (((v2 < (1280 : Int32)) → (st_C S (st_R S o 46) = 50) ∧ (vp_in v2 (st_L S (st_R S o 46))) ∧ (∀ S203, S203 = st_pI S (st_R S o 46) v2.toNatClampNeg (-1 : Int32) → K2 (v2 + (1 : Int32)) S203)) ∧ ((¬ (v2 < (1280 : Int32))) → wl_X7_pays_24 o a1 (0 : Int32) S Q))
def wl_X7_pays_2 (o : Nat) (a1 : Int32) (v2 : Int32) (S : hp_St) (Q : hp_St → Prop) : Prop := ∃ (I : Int32 → hp_St → Prop) (μ : Int32 → hp_St → Nat), I v2 S ∧ ∀ (v2 : Int32) (S1 : hp_St), hp_mono S S1 → I v2 S1 → wb_X7_pays_2 o a1 v2 S1 (fun v2' S2 => I v2' S2 ∧ μ v2' S2 < μ v2 S1) Q
def wp_X7_pays (o : Nat) (a1 : Int32) (S : hp_St) (Q : hp_St → Prop) : Prop := wl_X7_pays_2 o a1 (0 : Int32) S Q
theorem nf_X7_pays : hp_nf yX7_pays 1 = true := by decide +kernel
set_option maxHeartbeats 4000000 in
theorem m_X7_pays {l : Launch} {B : Nat} {D : va_G} {s0 : State} {b0 : Nat} (G : hp_G l B D s0 b0) (o : Nat) (a1 : Int32) (Si : hp_St) (Q : hp_St → Prop) (hc0 : st_C Si o = 7) (h : wp_X7_pays o a1 Si Q) : hp_M l B D s0 yX7_pays cX7_pays 5 none 4 256 0 0 [hp_v B o, .int a1] Si (hp_Qv B D s0 (fun S' => hp_mono Si S' ∧ Q S')) := by
  refine hp_start G (by decide +kernel) rfl rfl (lv := [(0, hp_v B o), (1, .int a1)]) (by simp [lg_sl, hp_vc, hp_ci, hp_cj]) (by simp [lv_args, hp_vc, hp_ci, hp_cj]) ?_
  intro p e s m args below meth c E ls hl hR
  have hm : hp_mono Si Si := hp_mono.rf
  generalize hH : s.heap = H at hR ⊢
  generalize hLo : ([] : List Loc) = locs at hR ⊢
  have b50 : ∀ (v2 : Int32) (S : hp_St) (H : Heap) (locs : List Loc) (ls : Array Slot), wl_X7_pays_50 o a1 v2 S Q → lv_has ls 5 [(0, hp_v B o), (1, .int a1), (2, .int v2)] → hp_S B D s0 S H locs → hp_mono Si S → W p l e ({ frames := 4, cells := 0, slots := 0, locals := 256 } : Room) s m args below meth c H locs 0 0 (MQ below (hp_Qv B D s0 (fun S' => hp_mono Si S' ∧ Q S')) args s 0 0 (fun q => B < q)) (F0 m 50 ls []) := by
    intro v2 S H locs ls h hl hR hm
    obtain ⟨I50, μ50, hI, hst⟩ := h
    obtain ⟨Sa50, eSa50⟩ : ∃ x, x = S := ⟨_, rfl⟩
    subst eSa50
    have key50 : ∀ (N : Nat) (v2 : Int32) (Su50 : hp_St) (H : Heap) (locs : List Loc) (ls : Array Slot), μ50 v2 Su50 < N → I50 v2 Su50 → lv_has ls 5 [(0, hp_v B o), (1, .int a1), (2, .int v2)] → hp_S B D s0 Su50 H locs → hp_mono Sa50 Su50 → W p l e ({ frames := 4, cells := 0, slots := 0, locals := 256 } : Room) s m args below meth c H locs 0 0 (MQ below (hp_Qv B D s0 (fun S' => hp_mono Si S' ∧ Q S')) args s 0 0 (fun q => B < q)) (F0 m 50 ls []) := by
      intro N
      induction N with
      | zero =>
        intro v2 Su50 H locs ls hN
        exact absurd hN (Nat.not_lt_zero _)
      | succ N ih50 =>
        intro v2 Su50 H locs ls hN hI hl hR ms50
        have h := hst v2 Su50 ms50 hI
        have hm := hp_mono.tr hm ms50
        obtain ⟨K50, hKe50⟩ : ∃ K : Int32 → hp_St → Prop, K = (fun v2' Sk => I50 v2' Sk ∧ μ50 v2' Sk < μ50 v2 Su50) := ⟨_, rfl⟩
        rw [← hKe50] at h
        have hK50 : ∀ (v2' : Int32) (Sk : hp_St) (H : Heap) (locs : List Loc) (ls : Array Slot), K50 v2' Sk → lv_has ls 5 [(0, hp_v B o), (1, .int a1), (2, .int (v2'))] → hp_S B D s0 Sk H locs → hp_mono Sa50 Sk → W p l e ({ frames := 4, cells := 0, slots := 0, locals := 256 } : Room) s m args below meth c H locs 0 0 (MQ below (hp_Qv B D s0 (fun S' => hp_mono Si S' ∧ Q S')) args s 0 0 (fun q => B < q)) (F0 m 50 ls []) := by
          intro v2' Sk H locs ls hI hl hR ms
          rw [hKe50] at hI
          exact ih50 v2' Sk H locs ls (Nat.lt_of_lt_of_le hI.2 (Nat.le_of_lt_succ hN)) hI.1 hl hR ms
        have b62 : ∀ (v2 : Int32) (v3 : Int32) (S : hp_St) (H : Heap) (locs : List Loc) (ls : Array Slot), wl_X7_pays_62 o a1 v2 v3 S K50 Q → lv_has ls 5 [(0, hp_v B o), (1, .int a1), (2, .int v2), (3, .int v3)] → hp_S B D s0 S H locs → hp_mono Si S → hp_mono Sa50 S → W p l e ({ frames := 4, cells := 0, slots := 0, locals := 256 } : Room) s m args below meth c H locs 0 0 (MQ below (hp_Qv B D s0 (fun S' => hp_mono Si S' ∧ Q S')) args s 0 0 (fun q => B < q)) (F0 m 62 ls []) := by
          intro v2 v3 S H locs ls h hl hR hm ms50
          obtain ⟨I62, μ62, hI, hst⟩ := h
          obtain ⟨Sa62, eSa62⟩ : ∃ x, x = S := ⟨_, rfl⟩
          subst eSa62
          have key62 : ∀ (N : Nat) (v3 : Int32) (Su62 : hp_St) (H : Heap) (locs : List Loc) (ls : Array Slot), μ62 v3 Su62 < N → I62 v3 Su62 → lv_has ls 5 [(0, hp_v B o), (1, .int a1), (2, .int v2), (3, .int v3)] → hp_S B D s0 Su62 H locs → hp_mono Sa62 Su62 → W p l e ({ frames := 4, cells := 0, slots := 0, locals := 256 } : Room) s m args below meth c H locs 0 0 (MQ below (hp_Qv B D s0 (fun S' => hp_mono Si S' ∧ Q S')) args s 0 0 (fun q => B < q)) (F0 m 62 ls []) := by
            intro N
            induction N with
            | zero =>
              intro v3 Su62 H locs ls hN
              exact absurd hN (Nat.not_lt_zero _)
            | succ N ih62 =>
              intro v3 Su62 H locs ls hN hI hl hR ms62
              have h := hst v3 Su62 ms62 hI
              have hm := hp_mono.tr hm ms62
              have ms50 := hp_mono.tr ms50 ms62
              obtain ⟨K62, hKe62⟩ : ∃ K : Int32 → hp_St → Prop, K = (fun v3' Sk => I62 v3' Sk ∧ μ62 v3' Sk < μ62 v3 Su62) := ⟨_, rfl⟩
              rw [← hKe62] at h
              have hK62 : ∀ (v3' : Int32) (Sk : hp_St) (H : Heap) (locs : List Loc) (ls : Array Slot), K62 v3' Sk → lv_has ls 5 [(0, hp_v B o), (1, .int a1), (2, .int v2), (3, .int (v3'))] → hp_S B D s0 Sk H locs → hp_mono Sa62 Sk → W p l e ({ frames := 4, cells := 0, slots := 0, locals := 256 } : Room) s m args below meth c H locs 0 0 (MQ below (hp_Qv B D s0 (fun S' => hp_mono Si S' ∧ Q S')) args s 0 0 (fun q => B < q)) (F0 m 62 ls []) := by
                intro v3' Sk H locs ls hI hl hR ms
                rw [hKe62] at hI
                exact ih62 v3' Sk H locs ls (Nat.lt_of_lt_of_le hI.2 (Nat.le_of_lt_succ hN)) hI.1 hl hR ms
              have b95 : ∀ (v3 : Int32) (v4 : Int32) (S : hp_St) (H : Heap) (locs : List Loc) (ls : Array Slot), wl_X7_pays_95 o a1 v2 v3 v4 S K50 K62 Q → lv_has ls 5 [(0, hp_v B o), (1, .int a1), (2, .int v2), (3, .int v3), (4, .int v4)] → hp_S B D s0 S H locs → hp_mono Si S → hp_mono Sa50 S → hp_mono Sa62 S → W p l e ({ frames := 4, cells := 0, slots := 0, locals := 256 } : Room) s m args below meth c H locs 0 0 (MQ below (hp_Qv B D s0 (fun S' => hp_mono Si S' ∧ Q S')) args s 0 0 (fun q => B < q)) (F0 m 95 ls []) := by
                intro v3 v4 S H locs ls h hl hR hm ms50 ms62
                obtain ⟨I95, μ95, hI, hst⟩ := h
                obtain ⟨Sa95, eSa95⟩ : ∃ x, x = S := ⟨_, rfl⟩
                subst eSa95
                have key95 : ∀ (N : Nat) (v4 : Int32) (Su95 : hp_St) (H : Heap) (locs : List Loc) (ls : Array Slot), μ95 v4 Su95 < N → I95 v4 Su95 → lv_has ls 5 [(0, hp_v B o), (1, .int a1), (2, .int v2), (3, .int v3), (4, .int v4)] → hp_S B D s0 Su95 H locs → hp_mono Sa95 Su95 → W p l e ({ frames := 4, cells := 0, slots := 0, locals := 256 } : Room) s m args below meth c H locs 0 0 (MQ below (hp_Qv B D s0 (fun S' => hp_mono Si S' ∧ Q S')) args s 0 0 (fun q => B < q)) (F0 m 95 ls []) := by
                  intro N
                  induction N with
                  | zero =>
                    intro v4 Su95 H locs ls hN
                    exact absurd hN (Nat.not_lt_zero _)
                  | succ N ih95 =>
                    intro v4 Su95 H locs ls hN hI hl hR ms95
                    have h := hst v4 Su95 ms95 hI
                    have hm := hp_mono.tr hm ms95
                    have ms50 := hp_mono.tr ms50 ms95
                    have ms62 := hp_mono.tr ms62 ms95
                    obtain ⟨K95, hKe95⟩ : ∃ K : Int32 → hp_St → Prop, K = (fun v4' Sk => I95 v4' Sk ∧ μ95 v4' Sk < μ95 v4 Su95) := ⟨_, rfl⟩
                    rw [← hKe95] at h
                    have hK95 : ∀ (v4' : Int32) (Sk : hp_St) (H : Heap) (locs : List Loc) (ls : Array Slot), K95 v4' Sk → lv_has ls 5 [(0, hp_v B o), (1, .int a1), (2, .int v2), (3, .int v3), (4, .int (v4'))] → hp_S B D s0 Sk H locs → hp_mono Sa95 Sk → W p l e ({ frames := 4, cells := 0, slots := 0, locals := 256 } : Room) s m args below meth c H locs 0 0 (MQ below (hp_Qv B D s0 (fun S' => hp_mono Si S' ∧ Q S')) args s 0 0 (fun q => B < q)) (F0 m 95 ls []) := by
                      intro v4' Sk H locs ls hI hl hR ms
                      rw [hKe95] at hI
                      exact ih95 v4' Sk H locs ls (Nat.lt_of_lt_of_le hI.2 (Nat.le_of_lt_succ hN)) hI.1 hl hR ms
                    have b159 : ∀ (v4 : Int32) (S : hp_St) (H : Heap) (locs : List Loc) (ls : Array Slot), wb_X7_pays_159 o a1 v2 v3 v4 S K50 K62 K95 Q → lv_has ls 5 [(0, hp_v B o), (1, .int a1), (2, .int v2), (3, .int v3), (4, .int v4)] → hp_S B D s0 S H locs → hp_mono Si S → hp_mono Sa50 S → hp_mono Sa62 S → hp_mono Sa95 S → W p l e ({ frames := 4, cells := 0, slots := 0, locals := 256 } : Room) s m args below meth c H locs 0 0 (MQ below (hp_Qv B D s0 (fun S' => hp_mono Si S' ∧ Q S')) args s 0 0 (fun q => B < q)) (F0 m 159 ls []) := by
                      intro v4 S H locs ls h hl hR hm ms50 ms62 ms95
                      unfold wb_X7_pays_159 at h
                      refine hp_iinc E hl (v4 + (1 : Int32)) 4 (lv' := [(0, hp_v B o), (1, .int a1), (2, .int v2), (3, .int v3)]) dX7_pays_159 (rfl : 159 + 3 = 162) rfl (by first | rfl | (congr 1)) (by decide) rfl (fun ls hl => ?_)
                      refine hp_goto E (tgt := 95) dX7_pays_162 (by decide) ?_
                      exact hK95 _ _ _ _ _ h (lv_sub hl [1, 2, 3, 4, 0] rfl) hR ms95
                    unfold wb_X7_pays_95 at h
                    refine hp_iload E hl 4 rfl dX7_pays_95 (rfl : 95 + 2 = 97) ?_
                    refine hp_iload_n E hl 2 rfl 2 rfl dX7_pays_97 (rfl : 97 + 1 = 98) ?_
                    refine hp_icmp_gt E dX7_pays_98 (rfl : 98 + 3 = 101) (tgt := 165) (by decide) (fun hb => ?_) (fun hb => ?_)
                    · have h := h.1 hb
                      refine hp_aload_n E hl 0 rfl 0 rfl dX7_pays_101 (rfl : 101 + 1 = 102) ?_
                      refine hp_getR E hR in_X7 (hp_mono.c hm hc0) rfl 46 (Nat.le_of_ble_eq_true rfl) rfl q1307 (fun _ h => h) dX7_pays_102 (rfl : 102 + 3 = 105) ?_
                      refine hp_bipush E (80 : Int32) (by decide) dX7_pays_105 (rfl : 105 + 2 = 107) ?_
                      refine hp_iload_n E hl 3 rfl 3 rfl dX7_pays_107 (rfl : 107 + 1 = 108) ?_
                      refine hp_imul E dX7_pays_108 (rfl : 108 + 1 = 109) ?_
                      refine hp_iload E hl 4 rfl dX7_pays_109 (rfl : 109 + 2 = 111) ?_
                      refine hp_iadd E dX7_pays_111 (rfl : 111 + 1 = 112) ?_
                      obtain ⟨hc9501, h⟩ := h
                      obtain ⟨hi9502, h⟩ := h
                      refine hp_iald E hR hc9501 hi9502 dX7_pays_112 (rfl : 112 + 1 = 113) ?_
                      refine hp_iconst E (-1 : Int32) (by decide) dX7_pays_113 (rfl : 113 + 1 = 114) ?_
                      refine hp_icmp_ne E dX7_pays_114 (rfl : 114 + 3 = 117) (tgt := 159) (by decide) (fun hb => ?_) (fun hb => ?_)
                      · have h := h.1 hb
                        refine hp_aload_n E hl 0 rfl 0 rfl dX7_pays_117 (rfl : 117 + 1 = 118) ?_
                        refine hp_iload_n E hl 3 rfl 3 rfl dX7_pays_118 (rfl : 118 + 1 = 119) ?_
                        refine hp_iload E hl 4 rfl dX7_pays_119 (rfl : 119 + 2 = 121) ?_
                        refine hp_fi (hp_rV E hR hl (m_X7_isDue G _ _ _ _ _ (hp_mono.c hm hc0) h) (hp_mono.c hm hc0) (ci := 6) rfl rfl q1601 q1603 qs56 q82 q1604 nf_X7_isDue ⟨Nat.le_of_ble_eq_true rfl, Nat.le_of_ble_eq_true rfl⟩ (rest := []) rfl (Nat.le_of_ble_eq_true rfl) dX7_pays_121 ⟨Nat.le_of_ble_eq_true rfl, Nat.le_of_ble_eq_true rfl⟩) hR (rfl : 121 + 3 = 124) (fun z9503 Sx H locs hq hR => ?_)
                        obtain ⟨hSx, h⟩ := hq
                        rw [hSx] at hR
                        refine hp_if_eq E dX7_pays_124 (rfl : 124 + 3 = 127) (tgt := 159) (by decide) (fun hb => ?_) (fun hb => ?_)
                        · have h := h.1 hb
                          exact b159 _ _ _ _ _ h hl hR hm ms50 ms62 ms95
                        · have h := h.2 hb
                          refine hp_aload_n E hl 0 rfl 0 rfl dX7_pays_127 (rfl : 127 + 1 = 128) ?_
                          refine hp_iload_n E hl 3 rfl 3 rfl dX7_pays_128 (rfl : 128 + 1 = 129) ?_
                          refine hp_iload E hl 4 rfl dX7_pays_129 (rfl : 129 + 2 = 131) ?_
                          refine hp_fi (hp_rV E hR hl (m_X7_isProved G _ _ _ _ _ (hp_mono.c hm hc0) h) (hp_mono.c hm hc0) (ci := 6) rfl rfl q1609 q1611 qs58 q82 q1612 nf_X7_isProved ⟨Nat.le_of_ble_eq_true rfl, Nat.le_of_ble_eq_true rfl⟩ (rest := []) rfl (Nat.le_of_ble_eq_true rfl) dX7_pays_131 ⟨Nat.le_of_ble_eq_true rfl, Nat.le_of_ble_eq_true rfl⟩) hR (rfl : 131 + 3 = 134) (fun z9504 Sx H locs hq hR => ?_)
                          obtain ⟨hSx, h⟩ := hq
                          rw [hSx] at hR
                          refine hp_if_ne E dX7_pays_134 (rfl : 134 + 3 = 137) (tgt := 140) (by decide) (fun hb => ?_) (fun hb => ?_)
                          · have h := h.1 hb
                            refine hp_goto E (tgt := 159) dX7_pays_137 (by decide) ?_
                            exact b159 _ _ _ _ _ h hl hR hm ms50 ms62 ms95
                          · have h := h.2 hb
                            refine hp_aload_n E hl 0 rfl 0 rfl dX7_pays_140 (rfl : 140 + 1 = 141) ?_
                            refine hp_getR E hR in_X7 (hp_mono.c hm hc0) rfl 46 (Nat.le_of_ble_eq_true rfl) rfl q1307 (fun _ h => h) dX7_pays_141 (rfl : 141 + 3 = 144) ?_
                            refine hp_bipush E (80 : Int32) (by decide) dX7_pays_144 (rfl : 144 + 2 = 146) ?_
                            refine hp_iload_n E hl 3 rfl 3 rfl dX7_pays_146 (rfl : 146 + 1 = 147) ?_
                            refine hp_imul E dX7_pays_147 (rfl : 147 + 1 = 148) ?_
                            refine hp_iload E hl 4 rfl dX7_pays_148 (rfl : 148 + 2 = 150) ?_
                            refine hp_iadd E dX7_pays_150 (rfl : 150 + 1 = 151) ?_
                            refine hp_iload_n E hl 2 rfl 2 rfl dX7_pays_151 (rfl : 151 + 1 = 152) ?_
                            obtain ⟨hi9505, h⟩ := h
                            refine hx_iast E hR hc9501 hi9505 dX7_pays_152 (rfl : 152 + 1 = 153) (fun S9506 H locs e9508 hm9507 hR => ?_)
                            have h := h S9506 e9508
                            have hm := hp_mono.tr hm hm9507
                            have ms50 := hp_mono.tr ms50 hm9507
                            have ms62 := hp_mono.tr ms62 hm9507
                            have ms95 := hp_mono.tr ms95 hm9507
                            refine hp_aload_n E hl 0 rfl 0 rfl dX7_pays_153 (rfl : 153 + 1 = 154) ?_
                            refine hp_iload_n E hl 3 rfl 3 rfl dX7_pays_154 (rfl : 154 + 1 = 155) ?_
                            refine hp_iload_n E hl 2 rfl 2 rfl dX7_pays_155 (rfl : 155 + 1 = 156) ?_
                            refine hp_fv (hp_rV E hR hl (m_X7_shares G _ _ _ _ _ (hp_mono.c hm hc0) h) (hp_mono.c hm hc0) (ci := 6) rfl rfl q1613 q1615 qs59 q82 q1616 nf_X7_shares ⟨Nat.le_of_ble_eq_true rfl, Nat.le_of_ble_eq_true rfl⟩ (rest := []) rfl (Nat.le_of_ble_eq_true rfl) dX7_pays_156 ⟨Nat.le_of_ble_eq_true rfl, Nat.le_of_ble_eq_true rfl⟩) hR (rfl : 156 + 3 = 159) (fun S9509 H locs hq hR => ?_)
                            obtain ⟨hm9510, h⟩ := hq
                            have h := h hm9510
                            have hm := hp_mono.tr hm hm9510
                            have ms50 := hp_mono.tr ms50 hm9510
                            have ms62 := hp_mono.tr ms62 hm9510
                            have ms95 := hp_mono.tr ms95 hm9510
                            exact b159 _ _ _ _ _ h hl hR hm ms50 ms62 ms95
                      · have h := h.2 hb
                        exact b159 _ _ _ _ _ h hl hR hm ms50 ms62 ms95
                    · have h := h.2 hb
                      refine hp_iinc E hl (v3 + (1 : Int32)) 3 (lv' := [(0, hp_v B o), (1, .int a1), (2, .int v2), (4, .int v4)]) dX7_pays_165 (rfl : 165 + 3 = 168) rfl (by first | rfl | (congr 1)) (by decide) rfl (fun ls hl => ?_)
                      refine hp_goto E (tgt := 62) dX7_pays_168 (by decide) ?_
                      exact hK62 _ _ _ _ _ h (lv_sub hl [1, 2, 3, 0] rfl) hR ms62
                exact key95 (μ95 v4 Sa95 + 1) v4 _ H locs ls (Nat.lt_succ_self _) hI hl hR hp_mono.rf
              have b93 : ∀ (v3 : Int32) (t0 : Int32) (S : hp_St) (H : Heap) (locs : List Loc) (ls : Array Slot), wb_X7_pays_93 o a1 v2 v3 t0 S K50 K62 Q → lv_has ls 5 [(0, hp_v B o), (1, .int a1), (2, .int v2), (3, .int v3)] → hp_S B D s0 S H locs → hp_mono Si S → hp_mono Sa50 S → hp_mono Sa62 S → W p l e ({ frames := 4, cells := 0, slots := 0, locals := 256 } : Room) s m args below meth c H locs 0 0 (MQ below (hp_Qv B D s0 (fun S' => hp_mono Si S' ∧ Q S')) args s 0 0 (fun q => B < q)) (F0 m 93 ls [.int t0]) := by
                intro v3 t0 S H locs ls h hl hR hm ms50 ms62
                unfold wb_X7_pays_93 at h
                refine hp_istore E hl 4 (lv' := [(0, hp_v B o), (1, .int a1), (2, .int v2), (3, .int v3)]) dX7_pays_93 (rfl : 93 + 2 = 95) (by decide) rfl (fun ls hl => ?_)
                exact b95 _ _ _ _ _ _ h (lv_sub hl [1, 2, 3, 4, 0] rfl) hR hm ms50 ms62
              unfold wb_X7_pays_62 at h
              refine hp_iload_n E hl 3 rfl 3 rfl dX7_pays_62 (rfl : 62 + 1 = 63) ?_
              refine hp_aload_n E hl 0 rfl 0 rfl dX7_pays_63 (rfl : 63 + 1 = 64) ?_
              refine hp_getI E hR in_X7 (hp_mono.c hm hc0) rfl 7 (Nat.le_of_ble_eq_true rfl) rfl q1268 (fun _ h => h) dX7_pays_64 (rfl : 64 + 3 = 67) ?_
              refine hp_icmp_ge E dX7_pays_67 (rfl : 67 + 3 = 70) (tgt := 171) (by decide) (fun hb => ?_) (fun hb => ?_)
              · have h := h.1 hb
                refine hp_iload_n E hl 2 rfl 2 rfl dX7_pays_70 (rfl : 70 + 1 = 71) ?_
                refine hp_aload_n E hl 0 rfl 0 rfl dX7_pays_71 (rfl : 71 + 1 = 72) ?_
                refine hp_getR E hR in_X7 (hp_mono.c hm hc0) rfl 40 (Nat.le_of_ble_eq_true rfl) rfl q1301 (fun _ h => h) dX7_pays_72 (rfl : 72 + 3 = 75) ?_
                refine hp_iconst E (0 : Int32) (by decide) dX7_pays_75 (rfl : 75 + 1 = 76) ?_
                obtain ⟨hc6201, h⟩ := h
                obtain ⟨hi6202, h⟩ := h
                refine hp_iald E hR hc6201 hi6202 dX7_pays_76 (rfl : 76 + 1 = 77) ?_
                refine hp_isub E dX7_pays_77 (rfl : 77 + 1 = 78) ?_
                refine hp_if_ge E dX7_pays_78 (rfl : 78 + 3 = 81) (tgt := 85) (by decide) (fun hb => ?_) (fun hb => ?_)
                · have h := h.1 hb
                  refine hp_iconst E (0 : Int32) (by decide) dX7_pays_81 (rfl : 81 + 1 = 82) ?_
                  refine hp_goto E (tgt := 93) dX7_pays_82 (by decide) ?_
                  exact b93 _ _ _ _ _ _ h hl hR hm ms50 ms62
                · have h := h.2 hb
                  refine hp_iload_n E hl 2 rfl 2 rfl dX7_pays_85 (rfl : 85 + 1 = 86) ?_
                  refine hp_aload_n E hl 0 rfl 0 rfl dX7_pays_86 (rfl : 86 + 1 = 87) ?_
                  refine hp_getR E hR in_X7 (hp_mono.c hm hc0) rfl 40 (Nat.le_of_ble_eq_true rfl) rfl q1301 (fun _ h => h) dX7_pays_87 (rfl : 87 + 3 = 90) ?_
                  refine hp_iconst E (0 : Int32) (by decide) dX7_pays_90 (rfl : 90 + 1 = 91) ?_
                  obtain ⟨hi6203, h⟩ := h
                  refine hp_iald E hR hc6201 hi6203 dX7_pays_91 (rfl : 91 + 1 = 92) ?_
                  refine hp_isub E dX7_pays_92 (rfl : 92 + 1 = 93) ?_
                  exact b93 _ _ _ _ _ _ h hl hR hm ms50 ms62
              · have h := h.2 hb
                refine hp_iinc E hl (v2 + (1 : Int32)) 2 (lv' := [(0, hp_v B o), (1, .int a1), (3, .int v3)]) dX7_pays_171 (rfl : 171 + 3 = 174) rfl (by first | rfl | (congr 1)) (by decide) rfl (fun ls hl => ?_)
                refine hp_goto E (tgt := 50) dX7_pays_174 (by decide) ?_
                exact hK50 _ _ _ _ _ h (lv_sub hl [1, 2, 0] rfl) hR ms50
          exact key62 (μ62 v3 Sa62 + 1) v3 _ H locs ls (Nat.lt_succ_self _) hI hl hR hp_mono.rf
        unfold wb_X7_pays_50 at h
        refine hp_iload_n E hl 2 rfl 2 rfl dX7_pays_50 (rfl : 50 + 1 = 51) ?_
        refine hp_iload_n E hl 1 rfl 1 rfl dX7_pays_51 (rfl : 51 + 1 = 52) ?_
        refine hp_icmp_gt E dX7_pays_52 (rfl : 52 + 3 = 55) (tgt := 177) (by decide) (fun hb => ?_) (fun hb => ?_)
        · have h := h.1 hb
          refine hp_aload_n E hl 0 rfl 0 rfl dX7_pays_55 (rfl : 55 + 1 = 56) ?_
          refine hp_iload_n E hl 2 rfl 2 rfl dX7_pays_56 (rfl : 56 + 1 = 57) ?_
          refine hp_fv (hp_rV E hR hl (m_X7_know G _ _ _ _ (hp_mono.c hm hc0) h) (hp_mono.c hm hc0) (ci := 6) rfl rfl q1581 q1583 qs53 q82 q1584 nf_X7_know ⟨Nat.le_of_ble_eq_true rfl, Nat.le_of_ble_eq_true rfl⟩ (rest := []) rfl (Nat.le_of_ble_eq_true rfl) dX7_pays_57 ⟨Nat.le_of_ble_eq_true rfl, Nat.le_of_ble_eq_true rfl⟩) hR (rfl : 57 + 3 = 60) (fun S5001 H locs hq hR => ?_)
          obtain ⟨hm5002, h⟩ := hq
          have h := h hm5002
          have hm := hp_mono.tr hm hm5002
          have ms50 := hp_mono.tr ms50 hm5002
          refine hp_iconst E (0 : Int32) (by decide) dX7_pays_60 (rfl : 60 + 1 = 61) ?_
          refine hp_istore_n E hl 3 rfl (lv' := [(0, hp_v B o), (1, .int a1), (2, .int v2)]) dX7_pays_61 (rfl : 61 + 1 = 62) (by decide) rfl (fun ls hl => ?_)
          exact b62 _ _ _ _ _ _ h (lv_sub hl [1, 2, 3, 0] rfl) hR hm ms50
        · have h := h.2 hb
          exact hp_vret E hR ⟨hm, h⟩ (Nat.le_of_ble_eq_true rfl) (Nat.le_of_ble_eq_true rfl) dX7_pays_177
    exact key50 (μ50 v2 Sa50 + 1) v2 _ H locs ls (Nat.lt_succ_self _) hI hl hR hp_mono.rf
  have b24 : ∀ (v2 : Int32) (S : hp_St) (H : Heap) (locs : List Loc) (ls : Array Slot), wl_X7_pays_24 o a1 v2 S Q → lv_has ls 5 [(0, hp_v B o), (1, .int a1), (2, .int v2)] → hp_S B D s0 S H locs → hp_mono Si S → W p l e ({ frames := 4, cells := 0, slots := 0, locals := 256 } : Room) s m args below meth c H locs 0 0 (MQ below (hp_Qv B D s0 (fun S' => hp_mono Si S' ∧ Q S')) args s 0 0 (fun q => B < q)) (F0 m 24 ls []) := by
    intro v2 S H locs ls h hl hR hm
    obtain ⟨I24, μ24, hI, hst⟩ := h
    obtain ⟨Sa24, eSa24⟩ : ∃ x, x = S := ⟨_, rfl⟩
    subst eSa24
    have key24 : ∀ (N : Nat) (v2 : Int32) (Su24 : hp_St) (H : Heap) (locs : List Loc) (ls : Array Slot), μ24 v2 Su24 < N → I24 v2 Su24 → lv_has ls 5 [(0, hp_v B o), (1, .int a1), (2, .int v2)] → hp_S B D s0 Su24 H locs → hp_mono Sa24 Su24 → W p l e ({ frames := 4, cells := 0, slots := 0, locals := 256 } : Room) s m args below meth c H locs 0 0 (MQ below (hp_Qv B D s0 (fun S' => hp_mono Si S' ∧ Q S')) args s 0 0 (fun q => B < q)) (F0 m 24 ls []) := by
      intro N
      induction N with
      | zero =>
        intro v2 Su24 H locs ls hN
        exact absurd hN (Nat.not_lt_zero _)
      | succ N ih24 =>
        intro v2 Su24 H locs ls hN hI hl hR ms24
        have h := hst v2 Su24 ms24 hI
        have hm := hp_mono.tr hm ms24
        obtain ⟨K24, hKe24⟩ : ∃ K : Int32 → hp_St → Prop, K = (fun v2' Sk => I24 v2' Sk ∧ μ24 v2' Sk < μ24 v2 Su24) := ⟨_, rfl⟩
        rw [← hKe24] at h
        have hK24 : ∀ (v2' : Int32) (Sk : hp_St) (H : Heap) (locs : List Loc) (ls : Array Slot), K24 v2' Sk → lv_has ls 5 [(0, hp_v B o), (1, .int a1), (2, .int (v2'))] → hp_S B D s0 Sk H locs → hp_mono Sa24 Sk → W p l e ({ frames := 4, cells := 0, slots := 0, locals := 256 } : Room) s m args below meth c H locs 0 0 (MQ below (hp_Qv B D s0 (fun S' => hp_mono Si S' ∧ Q S')) args s 0 0 (fun q => B < q)) (F0 m 24 ls []) := by
          intro v2' Sk H locs ls hI hl hR ms
          rw [hKe24] at hI
          exact ih24 v2' Sk H locs ls (Nat.lt_of_lt_of_le hI.2 (Nat.le_of_lt_succ hN)) hI.1 hl hR ms
        unfold wb_X7_pays_24 at h
        refine hp_iload_n E hl 2 rfl 2 rfl dX7_pays_24 (rfl : 24 + 1 = 25) ?_
        refine hp_bipush E (8 : Int32) (by decide) dX7_pays_25 (rfl : 25 + 2 = 27) ?_
        refine hp_icmp_ge E dX7_pays_27 (rfl : 27 + 3 = 30) (tgt := 43) (by decide) (fun hb => ?_) (fun hb => ?_)
        · have h := h.1 hb
          refine hp_aload_n E hl 0 rfl 0 rfl dX7_pays_30 (rfl : 30 + 1 = 31) ?_
          refine hp_getR E hR in_X7 (hp_mono.c hm hc0) rfl 47 (Nat.le_of_ble_eq_true rfl) rfl q1308 (fun _ h => h) dX7_pays_31 (rfl : 31 + 3 = 34) ?_
          refine hp_iload_n E hl 2 rfl 2 rfl dX7_pays_34 (rfl : 34 + 1 = 35) ?_
          refine hp_iconst E (0 : Int32) (by decide) dX7_pays_35 (rfl : 35 + 1 = 36) ?_
          obtain ⟨hc2401, h⟩ := h
          obtain ⟨hi2402, h⟩ := h
          refine hx_iast E hR hc2401 hi2402 dX7_pays_36 (rfl : 36 + 1 = 37) (fun S2403 H locs e2405 hm2404 hR => ?_)
          have h := h S2403 e2405
          have hm := hp_mono.tr hm hm2404
          have ms24 := hp_mono.tr ms24 hm2404
          refine hp_iinc E hl (v2 + (1 : Int32)) 2 (lv' := [(0, hp_v B o), (1, .int a1)]) dX7_pays_37 (rfl : 37 + 3 = 40) rfl (by first | rfl | (congr 1)) (by decide) rfl (fun ls hl => ?_)
          refine hp_goto E (tgt := 24) dX7_pays_40 (by decide) ?_
          exact hK24 _ _ _ _ _ h (lv_sub hl [1, 2, 0] rfl) hR ms24
        · have h := h.2 hb
          refine hp_aload_n E hl 0 rfl 0 rfl dX7_pays_43 (rfl : 43 + 1 = 44) ?_
          refine hp_iconst E (0 : Int32) (by decide) dX7_pays_44 (rfl : 44 + 1 = 45) ?_
          refine hx_putI E hR in_X7 tyX7 tyX7_ok nmX7 (hp_mono.c hm hc0) rfl 48 (Nat.le_of_ble_eq_true rfl) rfl q1309 (fun _ h => h) (Or.inl rfl) (Or.inl rfl) dX7_pays_45 (rfl : 45 + 3 = 48) (fun S2406 H locs e2408 hm2407 hR => ?_)
          have h := h S2406 e2408
          have hm := hp_mono.tr hm hm2407
          have ms24 := hp_mono.tr ms24 hm2407
          refine hp_iconst E (0 : Int32) (by decide) dX7_pays_48 (rfl : 48 + 1 = 49) ?_
          refine hp_istore_n E hl 2 rfl (lv' := [(0, hp_v B o), (1, .int a1)]) dX7_pays_49 (rfl : 49 + 1 = 50) (by decide) rfl (fun ls hl => ?_)
          exact b50 _ _ _ _ _ h (lv_sub hl [1, 2, 0] rfl) hR hm
    exact key24 (μ24 v2 Sa24 + 1) v2 _ H locs ls (Nat.lt_succ_self _) hI hl hR hp_mono.rf
  have b2 : ∀ (v2 : Int32) (S : hp_St) (H : Heap) (locs : List Loc) (ls : Array Slot), wl_X7_pays_2 o a1 v2 S Q → lv_has ls 5 [(0, hp_v B o), (1, .int a1), (2, .int v2)] → hp_S B D s0 S H locs → hp_mono Si S → W p l e ({ frames := 4, cells := 0, slots := 0, locals := 256 } : Room) s m args below meth c H locs 0 0 (MQ below (hp_Qv B D s0 (fun S' => hp_mono Si S' ∧ Q S')) args s 0 0 (fun q => B < q)) (F0 m 2 ls []) := by
    intro v2 S H locs ls h hl hR hm
    obtain ⟨I2, μ2, hI, hst⟩ := h
    obtain ⟨Sa2, eSa2⟩ : ∃ x, x = S := ⟨_, rfl⟩
    subst eSa2
    have key2 : ∀ (N : Nat) (v2 : Int32) (Su2 : hp_St) (H : Heap) (locs : List Loc) (ls : Array Slot), μ2 v2 Su2 < N → I2 v2 Su2 → lv_has ls 5 [(0, hp_v B o), (1, .int a1), (2, .int v2)] → hp_S B D s0 Su2 H locs → hp_mono Sa2 Su2 → W p l e ({ frames := 4, cells := 0, slots := 0, locals := 256 } : Room) s m args below meth c H locs 0 0 (MQ below (hp_Qv B D s0 (fun S' => hp_mono Si S' ∧ Q S')) args s 0 0 (fun q => B < q)) (F0 m 2 ls []) := by
      intro N
      induction N with
      | zero =>
        intro v2 Su2 H locs ls hN
        exact absurd hN (Nat.not_lt_zero _)
      | succ N ih2 =>
        intro v2 Su2 H locs ls hN hI hl hR ms2
        have h := hst v2 Su2 ms2 hI
        have hm := hp_mono.tr hm ms2
        obtain ⟨K2, hKe2⟩ : ∃ K : Int32 → hp_St → Prop, K = (fun v2' Sk => I2 v2' Sk ∧ μ2 v2' Sk < μ2 v2 Su2) := ⟨_, rfl⟩
        rw [← hKe2] at h
        have hK2 : ∀ (v2' : Int32) (Sk : hp_St) (H : Heap) (locs : List Loc) (ls : Array Slot), K2 v2' Sk → lv_has ls 5 [(0, hp_v B o), (1, .int a1), (2, .int (v2'))] → hp_S B D s0 Sk H locs → hp_mono Sa2 Sk → W p l e ({ frames := 4, cells := 0, slots := 0, locals := 256 } : Room) s m args below meth c H locs 0 0 (MQ below (hp_Qv B D s0 (fun S' => hp_mono Si S' ∧ Q S')) args s 0 0 (fun q => B < q)) (F0 m 2 ls []) := by
          intro v2' Sk H locs ls hI hl hR ms
          rw [hKe2] at hI
          exact ih2 v2' Sk H locs ls (Nat.lt_of_lt_of_le hI.2 (Nat.le_of_lt_succ hN)) hI.1 hl hR ms
        unfold wb_X7_pays_2 at h
        refine hp_iload_n E hl 2 rfl 2 rfl dX7_pays_2 (rfl : 2 + 1 = 3) ?_
        refine hp_sipush E (1280 : Int32) (by decide) dX7_pays_3 (rfl : 3 + 3 = 6) ?_
        refine hp_icmp_ge E dX7_pays_6 (rfl : 6 + 3 = 9) (tgt := 22) (by decide) (fun hb => ?_) (fun hb => ?_)
        · have h := h.1 hb
          refine hp_aload_n E hl 0 rfl 0 rfl dX7_pays_9 (rfl : 9 + 1 = 10) ?_
          refine hp_getR E hR in_X7 (hp_mono.c hm hc0) rfl 46 (Nat.le_of_ble_eq_true rfl) rfl q1307 (fun _ h => h) dX7_pays_10 (rfl : 10 + 3 = 13) ?_
          refine hp_iload_n E hl 2 rfl 2 rfl dX7_pays_13 (rfl : 13 + 1 = 14) ?_
          refine hp_iconst E (-1 : Int32) (by decide) dX7_pays_14 (rfl : 14 + 1 = 15) ?_
          obtain ⟨hc201, h⟩ := h
          obtain ⟨hi202, h⟩ := h
          refine hx_iast E hR hc201 hi202 dX7_pays_15 (rfl : 15 + 1 = 16) (fun S203 H locs e205 hm204 hR => ?_)
          have h := h S203 e205
          have hm := hp_mono.tr hm hm204
          have ms2 := hp_mono.tr ms2 hm204
          refine hp_iinc E hl (v2 + (1 : Int32)) 2 (lv' := [(0, hp_v B o), (1, .int a1)]) dX7_pays_16 (rfl : 16 + 3 = 19) rfl (by first | rfl | (congr 1)) (by decide) rfl (fun ls hl => ?_)
          refine hp_goto E (tgt := 2) dX7_pays_19 (by decide) ?_
          exact hK2 _ _ _ _ _ h (lv_sub hl [1, 2, 0] rfl) hR ms2
        · have h := h.2 hb
          refine hp_iconst E (0 : Int32) (by decide) dX7_pays_22 (rfl : 22 + 1 = 23) ?_
          refine hp_istore_n E hl 2 rfl (lv' := [(0, hp_v B o), (1, .int a1)]) dX7_pays_23 (rfl : 23 + 1 = 24) (by decide) rfl (fun ls hl => ?_)
          exact b24 _ _ _ _ _ h (lv_sub hl [1, 2, 0] rfl) hR hm
    exact key2 (μ2 v2 Sa2 + 1) v2 _ H locs ls (Nat.lt_succ_self _) hI hl hR hp_mono.rf
  unfold wp_X7_pays at h
  refine hp_iconst E (0 : Int32) (by decide) dX7_pays_0 (rfl : 0 + 1 = 1) ?_
  refine hp_istore_n E hl 2 rfl (lv' := [(0, hp_v B o), (1, .int a1)]) dX7_pays_1 (rfl : 1 + 1 = 2) (by decide) rfl (fun ls hl => ?_)
  exact b2 _ _ _ _ _ h (lv_sub hl [1, 2, 0] rfl) hR hm
def wb_X7_paid_29 (o : Nat) (a1 : Int32) (a2 : Int32) (a3 : Int32) (S : hp_St) (Q : Int32 → hp_St → Prop) : Prop := Q (-1 : Int32) S
def wb_X7_paid_88 (o : Nat) (a1 : Int32) (a2 : Int32) (a3 : Int32) (t0 : Int32) (S : hp_St) (Q : Int32 → hp_St → Prop) : Prop := Q t0 S
def wb_X7_paid_87 (o : Nat) (a1 : Int32) (a2 : Int32) (a3 : Int32) (S : hp_St) (Q : Int32 → hp_St → Prop) : Prop := wb_X7_paid_88 o a1 a2 a3 (0 : Int32) S Q
def wb_X7_paid_83 (o : Nat) (a1 : Int32) (a2 : Int32) (a3 : Int32) (S : hp_St) (Q : Int32 → hp_St → Prop) : Prop := wb_X7_paid_88 o a1 a2 a3 (1 : Int32) S Q
def wp_X7_paid (o : Nat) (a1 : Int32) (a2 : Int32) (a3 : Int32) (S : hp_St) (Q : Int32 → hp_St → Prop) : Prop := (∀ S1, S1 = st_pI S o 2 (0 : Int32) → wp_X7_isRent o a1 S1 (fun z4 => (((z4 = 0) → wb_X7_paid_29 o a1 a2 a3 S1 Q) ∧ ((¬ (z4 = 0)) → wp_X7_isHalf a2 S1 (fun z5 => (((z5 = 0) → wb_X7_paid_29 o a1 a2 a3 S1 Q) ∧ ((¬ (z5 = 0)) → wp_X7_isIn a3 (0 : Int32) (2 : Int32) S1 (fun z6 => (((z6 = 0) → wb_X7_paid_29 o a1 a2 a3 S1 Q) ∧ ((¬ (z6 = 0)) → wp_X7_pays o (st_I S1 o 3) S1 (fun S7 => hp_mono S1 S7 → (((a3 = 0) → (st_C S7 (st_R S7 o 46) = 50) ∧ (vp_in (((80 : Int32) * a1) + a2) (st_L S7 (st_R S7 o 46))) ∧ wb_X7_paid_88 o a1 a2 a3 (st_I S7 (st_R S7 o 46) (((80 : Int32) * a1) + a2).toNatClampNeg) S7 Q) ∧ ((¬ (a3 = 0)) → (((a3 = (1 : Int32)) → wp_X7_isDue o a1 a2 S7 (fun z11 => (((z11 = 0) → wb_X7_paid_87 o a1 a2 a3 S7 Q) ∧ ((¬ (z11 = 0)) → wb_X7_paid_83 o a1 a2 a3 S7 Q)))) ∧ ((¬ (a3 = (1 : Int32))) → wp_X7_isProved o a1 a2 S7 (fun z12 => (((z12 = 0) → wb_X7_paid_87 o a1 a2 a3 S7 Q) ∧ ((¬ (z12 = 0)) → wb_X7_paid_83 o a1 a2 a3 S7 Q))))))))))))))))))
theorem nf_X7_paid : hp_nf yX7_paid 3 = true := by decide +kernel
set_option maxHeartbeats 4000000 in
theorem m_X7_paid {l : Launch} {B : Nat} {D : va_G} {s0 : State} {b0 : Nat} (G : hp_G l B D s0 b0) (o : Nat) (a1 : Int32) (a2 : Int32) (a3 : Int32) (Si : hp_St) (Q : Int32 → hp_St → Prop) (hc0 : st_C Si o = 7) (h : wp_X7_paid o a1 a2 a3 Si Q) : hp_M l B D s0 yX7_paid cX7_paid 4 (some .int) 5 320 0 0 [hp_v B o, .int a1, .int a2, .int a3] Si (hp_Qi B D s0 (fun r S' => hp_mono Si S' ∧ Q r S')) := by
  refine hp_start G (by decide +kernel) rfl rfl (lv := [(0, hp_v B o), (1, .int a1), (2, .int a2), (3, .int a3)]) (by simp [lg_sl, hp_vc, hp_ci, hp_cj]) (by simp [lv_args, hp_vc, hp_ci, hp_cj]) ?_
  intro p e s m args below meth c E ls hl hR
  have hm : hp_mono Si Si := hp_mono.rf
  generalize hH : s.heap = H at hR ⊢
  generalize hLo : ([] : List Loc) = locs at hR ⊢
  have b29 : ∀ (S : hp_St) (H : Heap) (locs : List Loc) (ls : Array Slot), wb_X7_paid_29 o a1 a2 a3 S Q → lv_has ls 4 [] → hp_S B D s0 S H locs → hp_mono Si S → W p l e ({ frames := 5, cells := 0, slots := 0, locals := 320 } : Room) s m args below meth c H locs 0 0 (MQ below (hp_Qi B D s0 (fun r S' => hp_mono Si S' ∧ Q r S')) args s 0 0 (fun q => B < q)) (F0 m 29 ls []) := by
    intro S H locs ls h hl hR hm
    unfold wb_X7_paid_29 at h
    refine hp_iconst E (-1 : Int32) (by decide) dX7_paid_29 (rfl : 29 + 1 = 30) ?_
    exact hp_iret E hR ⟨hm, h⟩ (Nat.le_of_ble_eq_true rfl) (Nat.le_of_ble_eq_true rfl) dX7_paid_30
  have b88 : ∀ (t0 : Int32) (S : hp_St) (H : Heap) (locs : List Loc) (ls : Array Slot), wb_X7_paid_88 o a1 a2 a3 t0 S Q → lv_has ls 4 [] → hp_S B D s0 S H locs → hp_mono Si S → W p l e ({ frames := 5, cells := 0, slots := 0, locals := 320 } : Room) s m args below meth c H locs 0 0 (MQ below (hp_Qi B D s0 (fun r S' => hp_mono Si S' ∧ Q r S')) args s 0 0 (fun q => B < q)) (F0 m 88 ls [.int t0]) := by
    intro t0 S H locs ls h hl hR hm
    unfold wb_X7_paid_88 at h
    exact hp_iret E hR ⟨hm, h⟩ (Nat.le_of_ble_eq_true rfl) (Nat.le_of_ble_eq_true rfl) dX7_paid_88
  have b87 : ∀ (S : hp_St) (H : Heap) (locs : List Loc) (ls : Array Slot), wb_X7_paid_87 o a1 a2 a3 S Q → lv_has ls 4 [] → hp_S B D s0 S H locs → hp_mono Si S → W p l e ({ frames := 5, cells := 0, slots := 0, locals := 320 } : Room) s m args below meth c H locs 0 0 (MQ below (hp_Qi B D s0 (fun r S' => hp_mono Si S' ∧ Q r S')) args s 0 0 (fun q => B < q)) (F0 m 87 ls []) := by
    intro S H locs ls h hl hR hm
    unfold wb_X7_paid_87 at h
    refine hp_iconst E (0 : Int32) (by decide) dX7_paid_87 (rfl : 87 + 1 = 88) ?_
    exact b88 _ _ _ _ _ h hl hR hm
  have b83 : ∀ (S : hp_St) (H : Heap) (locs : List Loc) (ls : Array Slot), wb_X7_paid_83 o a1 a2 a3 S Q → lv_has ls 4 [] → hp_S B D s0 S H locs → hp_mono Si S → W p l e ({ frames := 5, cells := 0, slots := 0, locals := 320 } : Room) s m args below meth c H locs 0 0 (MQ below (hp_Qi B D s0 (fun r S' => hp_mono Si S' ∧ Q r S')) args s 0 0 (fun q => B < q)) (F0 m 83 ls []) := by
    intro S H locs ls h hl hR hm
    unfold wb_X7_paid_83 at h
    refine hp_iconst E (1 : Int32) (by decide) dX7_paid_83 (rfl : 83 + 1 = 84) ?_
    refine hp_goto E (tgt := 88) dX7_paid_84 (by decide) ?_
    exact b88 _ _ _ _ _ h hl hR hm
  unfold wp_X7_paid at h
  refine hp_aload_n E hl 0 rfl 0 rfl dX7_paid_0 (rfl : 0 + 1 = 1) ?_
  refine hp_iconst E (0 : Int32) (by decide) dX7_paid_1 (rfl : 1 + 1 = 2) ?_
  refine hx_putI E hR in_X7 tyX7 tyX7_ok nmX7 hc0 rfl 2 (Nat.le_of_ble_eq_true rfl) rfl q1263 (fun _ h => h) (Or.inl rfl) (Or.inl rfl) dX7_paid_2 (rfl : 2 + 3 = 5) (fun S1 H locs e3 hm2 hR => ?_)
  have h := h S1 e3
  have hm := hp_mono.tr hm hm2
  refine hp_aload_n E hl 0 rfl 0 rfl dX7_paid_5 (rfl : 5 + 1 = 6) ?_
  refine hp_iload_n E hl 1 rfl 1 rfl dX7_paid_6 (rfl : 6 + 1 = 7) ?_
  refine hp_fi (hp_rV E hR hl (m_X7_isRent G _ _ _ _ (hp_mono.c hm hc0) h) (hp_mono.c hm hc0) (ci := 6) rfl rfl q1550 q1552 qs50 q82 q1553 nf_X7_isRent ⟨Nat.le_of_ble_eq_true rfl, Nat.le_of_ble_eq_true rfl⟩ (rest := []) rfl (Nat.le_of_ble_eq_true rfl) dX7_paid_7 ⟨Nat.le_of_ble_eq_true rfl, Nat.le_of_ble_eq_true rfl⟩) hR (rfl : 7 + 3 = 10) (fun z4 Sx H locs hq hR => ?_)
  obtain ⟨hSx, h⟩ := hq
  rw [hSx] at hR
  refine hp_if_eq E dX7_paid_10 (rfl : 10 + 3 = 13) (tgt := 29) (by decide) (fun hb => ?_) (fun hb => ?_)
  · have h := h.1 hb
    exact b29 _ _ _ _ h (lv_sub hl [] rfl) hR hm
  · have h := h.2 hb
    refine hp_iload_n E hl 2 rfl 2 rfl dX7_paid_13 (rfl : 13 + 1 = 14) ?_
    refine hp_fi (hp_rS E hR hl (m_X7_isHalf G _ _ _ h) q1562 q1563 q82 q1564 nf_X7_isHalf ⟨Nat.le_of_ble_eq_true rfl, Nat.le_of_ble_eq_true rfl⟩ (rest := []) rfl (Nat.le_of_ble_eq_true rfl) dX7_paid_14 ⟨Nat.le_of_ble_eq_true rfl, Nat.le_of_ble_eq_true rfl⟩) hR (rfl : 14 + 3 = 17) (fun z5 Sx H locs hq hR => ?_)
    obtain ⟨hSx, h⟩ := hq
    rw [hSx] at hR
    refine hp_if_eq E dX7_paid_17 (rfl : 17 + 3 = 20) (tgt := 29) (by decide) (fun hb => ?_) (fun hb => ?_)
    · have h := h.1 hb
      exact b29 _ _ _ _ h (lv_sub hl [] rfl) hR hm
    · have h := h.2 hb
      refine hp_iload_n E hl 3 rfl 3 rfl dX7_paid_20 (rfl : 20 + 1 = 21) ?_
      refine hp_iconst E (0 : Int32) (by decide) dX7_paid_21 (rfl : 21 + 1 = 22) ?_
      refine hp_iconst E (2 : Int32) (by decide) dX7_paid_22 (rfl : 22 + 1 = 23) ?_
      refine hp_fi (hp_rS E hR hl (m_X7_isIn G _ _ _ _ _ h) q1504 q1505 q82 q1506 nf_X7_isIn ⟨Nat.le_of_ble_eq_true rfl, Nat.le_of_ble_eq_true rfl⟩ (rest := []) rfl (Nat.le_of_ble_eq_true rfl) dX7_paid_23 ⟨Nat.le_of_ble_eq_true rfl, Nat.le_of_ble_eq_true rfl⟩) hR (rfl : 23 + 3 = 26) (fun z6 Sx H locs hq hR => ?_)
      obtain ⟨hSx, h⟩ := hq
      rw [hSx] at hR
      refine hp_if_ne E dX7_paid_26 (rfl : 26 + 3 = 29) (tgt := 31) (by decide) (fun hb => ?_) (fun hb => ?_)
      · have h := h.1 hb
        exact b29 _ _ _ _ h (lv_sub hl [] rfl) hR hm
      · have h := h.2 hb
        refine hp_aload_n E hl 0 rfl 0 rfl dX7_paid_31 (rfl : 31 + 1 = 32) ?_
        refine hp_aload_n E hl 0 rfl 0 rfl dX7_paid_32 (rfl : 32 + 1 = 33) ?_
        refine hp_getI E hR in_X7 (hp_mono.c hm hc0) rfl 3 (Nat.le_of_ble_eq_true rfl) rfl q1264 (fun _ h => h) dX7_paid_33 (rfl : 33 + 3 = 36) ?_
        refine hp_fv (hp_rV E hR hl (m_X7_pays G _ _ _ _ (hp_mono.c hm hc0) h) (hp_mono.c hm hc0) (ci := 6) rfl rfl q1597 q1599 qs55 q82 q1600 nf_X7_pays ⟨Nat.le_of_ble_eq_true rfl, Nat.le_of_ble_eq_true rfl⟩ (rest := []) rfl (Nat.le_of_ble_eq_true rfl) dX7_paid_36 ⟨Nat.le_of_ble_eq_true rfl, Nat.le_of_ble_eq_true rfl⟩) hR (rfl : 36 + 3 = 39) (fun S7 H locs hq hR => ?_)
        obtain ⟨hm8, h⟩ := hq
        have h := h hm8
        have hm := hp_mono.tr hm hm8
        refine hp_iload_n E hl 3 rfl 3 rfl dX7_paid_39 (rfl : 39 + 1 = 40) ?_
        refine hp_if_ne E dX7_paid_40 (rfl : 40 + 3 = 43) (tgt := 57) (by decide) (fun hb => ?_) (fun hb => ?_)
        · have h := h.1 hb
          refine hp_aload_n E hl 0 rfl 0 rfl dX7_paid_43 (rfl : 43 + 1 = 44) ?_
          refine hp_getR E hR in_X7 (hp_mono.c hm hc0) rfl 46 (Nat.le_of_ble_eq_true rfl) rfl q1307 (fun _ h => h) dX7_paid_44 (rfl : 44 + 3 = 47) ?_
          refine hp_bipush E (80 : Int32) (by decide) dX7_paid_47 (rfl : 47 + 2 = 49) ?_
          refine hp_iload_n E hl 1 rfl 1 rfl dX7_paid_49 (rfl : 49 + 1 = 50) ?_
          refine hp_imul E dX7_paid_50 (rfl : 50 + 1 = 51) ?_
          refine hp_iload_n E hl 2 rfl 2 rfl dX7_paid_51 (rfl : 51 + 1 = 52) ?_
          refine hp_iadd E dX7_paid_52 (rfl : 52 + 1 = 53) ?_
          obtain ⟨hc9, h⟩ := h
          obtain ⟨hi10, h⟩ := h
          refine hp_iald E hR hc9 hi10 dX7_paid_53 (rfl : 53 + 1 = 54) ?_
          refine hp_goto E (tgt := 88) dX7_paid_54 (by decide) ?_
          exact b88 _ _ _ _ _ h (lv_sub hl [] rfl) hR hm
        · have h := h.2 hb
          refine hp_iload_n E hl 3 rfl 3 rfl dX7_paid_57 (rfl : 57 + 1 = 58) ?_
          refine hp_iconst E (1 : Int32) (by decide) dX7_paid_58 (rfl : 58 + 1 = 59) ?_
          refine hp_icmp_ne E dX7_paid_59 (rfl : 59 + 3 = 62) (tgt := 74) (by decide) (fun hb => ?_) (fun hb => ?_)
          · have h := h.1 hb
            refine hp_aload_n E hl 0 rfl 0 rfl dX7_paid_62 (rfl : 62 + 1 = 63) ?_
            refine hp_iload_n E hl 1 rfl 1 rfl dX7_paid_63 (rfl : 63 + 1 = 64) ?_
            refine hp_iload_n E hl 2 rfl 2 rfl dX7_paid_64 (rfl : 64 + 1 = 65) ?_
            refine hp_fi (hp_rV E hR hl (m_X7_isDue G _ _ _ _ _ (hp_mono.c hm hc0) h) (hp_mono.c hm hc0) (ci := 6) rfl rfl q1601 q1603 qs56 q82 q1604 nf_X7_isDue ⟨Nat.le_of_ble_eq_true rfl, Nat.le_of_ble_eq_true rfl⟩ (rest := []) rfl (Nat.le_of_ble_eq_true rfl) dX7_paid_65 ⟨Nat.le_of_ble_eq_true rfl, Nat.le_of_ble_eq_true rfl⟩) hR (rfl : 65 + 3 = 68) (fun z11 Sx H locs hq hR => ?_)
            obtain ⟨hSx, h⟩ := hq
            rw [hSx] at hR
            refine hp_if_eq E dX7_paid_68 (rfl : 68 + 3 = 71) (tgt := 87) (by decide) (fun hb => ?_) (fun hb => ?_)
            · have h := h.1 hb
              exact b87 _ _ _ _ h (lv_sub hl [] rfl) hR hm
            · have h := h.2 hb
              refine hp_goto E (tgt := 83) dX7_paid_71 (by decide) ?_
              exact b83 _ _ _ _ h (lv_sub hl [] rfl) hR hm
          · have h := h.2 hb
            refine hp_aload_n E hl 0 rfl 0 rfl dX7_paid_74 (rfl : 74 + 1 = 75) ?_
            refine hp_iload_n E hl 1 rfl 1 rfl dX7_paid_75 (rfl : 75 + 1 = 76) ?_
            refine hp_iload_n E hl 2 rfl 2 rfl dX7_paid_76 (rfl : 76 + 1 = 77) ?_
            refine hp_fi (hp_rV E hR hl (m_X7_isProved G _ _ _ _ _ (hp_mono.c hm hc0) h) (hp_mono.c hm hc0) (ci := 6) rfl rfl q1609 q1611 qs58 q82 q1612 nf_X7_isProved ⟨Nat.le_of_ble_eq_true rfl, Nat.le_of_ble_eq_true rfl⟩ (rest := []) rfl (Nat.le_of_ble_eq_true rfl) dX7_paid_77 ⟨Nat.le_of_ble_eq_true rfl, Nat.le_of_ble_eq_true rfl⟩) hR (rfl : 77 + 3 = 80) (fun z12 Sx H locs hq hR => ?_)
            obtain ⟨hSx, h⟩ := hq
            rw [hSx] at hR
            refine hp_if_eq E dX7_paid_80 (rfl : 80 + 3 = 83) (tgt := 87) (by decide) (fun hb => ?_) (fun hb => ?_)
            · have h := h.1 hb
              exact b87 _ _ _ _ h (lv_sub hl [] rfl) hR hm
            · have h := h.2 hb
              exact b83 _ _ _ _ h (lv_sub hl [] rfl) hR hm
def wb_X7_got_24 (o : Nat) (a1 : Int32) (a2 : Int32) (S : hp_St) (Q : Int32 → hp_St → Prop) : Prop := Q (-1 : Int32) S
def wp_X7_got (o : Nat) (a1 : Int32) (a2 : Int32) (S : hp_St) (Q : Int32 → hp_St → Prop) : Prop := (∀ S1, S1 = st_pI S o 2 (0 : Int32) → wp_X7_isHolder a1 S1 (fun z4 => (((z4 = 0) → wb_X7_got_24 o a1 a2 S1 Q) ∧ ((¬ (z4 = 0)) → wp_X7_isIn a2 (0 : Int32) (st_I S1 o 3) S1 (fun z5 => (((z5 = 0) → wb_X7_got_24 o a1 a2 S1 Q) ∧ ((¬ (z5 = 0)) → wp_X7_pays o a2 S1 (fun S6 => hp_mono S1 S6 → (st_C S6 (st_R S6 o 47) = 50) ∧ (vp_in a1 (st_L S6 (st_R S6 o 47))) ∧ Q (st_I S6 (st_R S6 o 47) a1.toNatClampNeg) S6))))))))
theorem nf_X7_got : hp_nf yX7_got 2 = true := by decide +kernel
set_option maxHeartbeats 4000000 in
theorem m_X7_got {l : Launch} {B : Nat} {D : va_G} {s0 : State} {b0 : Nat} (G : hp_G l B D s0 b0) (o : Nat) (a1 : Int32) (a2 : Int32) (Si : hp_St) (Q : Int32 → hp_St → Prop) (hc0 : st_C Si o = 7) (h : wp_X7_got o a1 a2 Si Q) : hp_M l B D s0 yX7_got cX7_got 3 (some .int) 5 320 0 0 [hp_v B o, .int a1, .int a2] Si (hp_Qi B D s0 (fun r S' => hp_mono Si S' ∧ Q r S')) := by
  refine hp_start G (by decide +kernel) rfl rfl (lv := [(0, hp_v B o), (1, .int a1), (2, .int a2)]) (by simp [lg_sl, hp_vc, hp_ci, hp_cj]) (by simp [lv_args, hp_vc, hp_ci, hp_cj]) ?_
  intro p e s m args below meth c E ls hl hR
  have hm : hp_mono Si Si := hp_mono.rf
  generalize hH : s.heap = H at hR ⊢
  generalize hLo : ([] : List Loc) = locs at hR ⊢
  have b24 : ∀ (S : hp_St) (H : Heap) (locs : List Loc) (ls : Array Slot), wb_X7_got_24 o a1 a2 S Q → lv_has ls 3 [] → hp_S B D s0 S H locs → hp_mono Si S → W p l e ({ frames := 5, cells := 0, slots := 0, locals := 320 } : Room) s m args below meth c H locs 0 0 (MQ below (hp_Qi B D s0 (fun r S' => hp_mono Si S' ∧ Q r S')) args s 0 0 (fun q => B < q)) (F0 m 24 ls []) := by
    intro S H locs ls h hl hR hm
    unfold wb_X7_got_24 at h
    refine hp_iconst E (-1 : Int32) (by decide) dX7_got_24 (rfl : 24 + 1 = 25) ?_
    exact hp_iret E hR ⟨hm, h⟩ (Nat.le_of_ble_eq_true rfl) (Nat.le_of_ble_eq_true rfl) dX7_got_25
  unfold wp_X7_got at h
  refine hp_aload_n E hl 0 rfl 0 rfl dX7_got_0 (rfl : 0 + 1 = 1) ?_
  refine hp_iconst E (0 : Int32) (by decide) dX7_got_1 (rfl : 1 + 1 = 2) ?_
  refine hx_putI E hR in_X7 tyX7 tyX7_ok nmX7 hc0 rfl 2 (Nat.le_of_ble_eq_true rfl) rfl q1263 (fun _ h => h) (Or.inl rfl) (Or.inl rfl) dX7_got_2 (rfl : 2 + 3 = 5) (fun S1 H locs e3 hm2 hR => ?_)
  have h := h S1 e3
  have hm := hp_mono.tr hm hm2
  refine hp_iload_n E hl 1 rfl 1 rfl dX7_got_5 (rfl : 5 + 1 = 6) ?_
  refine hp_fi (hp_rS E hR hl (m_X7_isHolder G _ _ _ h) q1543 q1544 q82 q1545 nf_X7_isHolder ⟨Nat.le_of_ble_eq_true rfl, Nat.le_of_ble_eq_true rfl⟩ (rest := []) rfl (Nat.le_of_ble_eq_true rfl) dX7_got_6 ⟨Nat.le_of_ble_eq_true rfl, Nat.le_of_ble_eq_true rfl⟩) hR (rfl : 6 + 3 = 9) (fun z4 Sx H locs hq hR => ?_)
  obtain ⟨hSx, h⟩ := hq
  rw [hSx] at hR
  refine hp_if_eq E dX7_got_9 (rfl : 9 + 3 = 12) (tgt := 24) (by decide) (fun hb => ?_) (fun hb => ?_)
  · have h := h.1 hb
    exact b24 _ _ _ _ h (lv_sub hl [] rfl) hR hm
  · have h := h.2 hb
    refine hp_iload_n E hl 2 rfl 2 rfl dX7_got_12 (rfl : 12 + 1 = 13) ?_
    refine hp_iconst E (0 : Int32) (by decide) dX7_got_13 (rfl : 13 + 1 = 14) ?_
    refine hp_aload_n E hl 0 rfl 0 rfl dX7_got_14 (rfl : 14 + 1 = 15) ?_
    refine hp_getI E hR in_X7 (hp_mono.c hm hc0) rfl 3 (Nat.le_of_ble_eq_true rfl) rfl q1264 (fun _ h => h) dX7_got_15 (rfl : 15 + 3 = 18) ?_
    refine hp_fi (hp_rS E hR hl (m_X7_isIn G _ _ _ _ _ h) q1504 q1505 q82 q1506 nf_X7_isIn ⟨Nat.le_of_ble_eq_true rfl, Nat.le_of_ble_eq_true rfl⟩ (rest := []) rfl (Nat.le_of_ble_eq_true rfl) dX7_got_18 ⟨Nat.le_of_ble_eq_true rfl, Nat.le_of_ble_eq_true rfl⟩) hR (rfl : 18 + 3 = 21) (fun z5 Sx H locs hq hR => ?_)
    obtain ⟨hSx, h⟩ := hq
    rw [hSx] at hR
    refine hp_if_ne E dX7_got_21 (rfl : 21 + 3 = 24) (tgt := 26) (by decide) (fun hb => ?_) (fun hb => ?_)
    · have h := h.1 hb
      exact b24 _ _ _ _ h (lv_sub hl [] rfl) hR hm
    · have h := h.2 hb
      refine hp_aload_n E hl 0 rfl 0 rfl dX7_got_26 (rfl : 26 + 1 = 27) ?_
      refine hp_iload_n E hl 2 rfl 2 rfl dX7_got_27 (rfl : 27 + 1 = 28) ?_
      refine hp_fv (hp_rV E hR hl (m_X7_pays G _ _ _ _ (hp_mono.c hm hc0) h) (hp_mono.c hm hc0) (ci := 6) rfl rfl q1597 q1599 qs55 q82 q1600 nf_X7_pays ⟨Nat.le_of_ble_eq_true rfl, Nat.le_of_ble_eq_true rfl⟩ (rest := []) rfl (Nat.le_of_ble_eq_true rfl) dX7_got_28 ⟨Nat.le_of_ble_eq_true rfl, Nat.le_of_ble_eq_true rfl⟩) hR (rfl : 28 + 3 = 31) (fun S6 H locs hq hR => ?_)
      obtain ⟨hm7, h⟩ := hq
      have h := h hm7
      have hm := hp_mono.tr hm hm7
      refine hp_aload_n E hl 0 rfl 0 rfl dX7_got_31 (rfl : 31 + 1 = 32) ?_
      refine hp_getR E hR in_X7 (hp_mono.c hm hc0) rfl 47 (Nat.le_of_ble_eq_true rfl) rfl q1308 (fun _ h => h) dX7_got_32 (rfl : 32 + 3 = 35) ?_
      refine hp_iload_n E hl 1 rfl 1 rfl dX7_got_35 (rfl : 35 + 1 = 36) ?_
      obtain ⟨hc8, h⟩ := h
      obtain ⟨hi9, h⟩ := h
      refine hp_iald E hR hc8 hi9 dX7_got_36 (rfl : 36 + 1 = 37) ?_
      exact hp_iret E hR ⟨hm, h⟩ (Nat.le_of_ble_eq_true rfl) (Nat.le_of_ble_eq_true rfl) dX7_got_37
def wb_X7_owedOf_45 (o : Nat) (a1 : Int32) (v3 : Int32) (t0 : Int32) (t1 : Int32) (S : hp_St) (K4 : Int32 → Int32 → Prop) (Q : Int32 → Prop) : Prop := K4 (t0 + t1) (v3 + (1 : Int32))
def wb_X7_owedOf_44 (o : Nat) (a1 : Int32) (v3 : Int32) (t0 : Int32) (S : hp_St) (K4 : Int32 → Int32 → Prop) (Q : Int32 → Prop) : Prop := wb_X7_owedOf_45 o a1 v3 t0 (0 : Int32) S K4 Q
def wb_X7_owedOf_4 (o : Nat) (a1 : Int32) (v2 : Int32) (v3 : Int32) (S : hp_St) (K4 : Int32 → Int32 → Prop) (Q : Int32 → Prop) : Prop := (((v3 < (80 : Int32)) → (st_C S (st_R S o 46) = 50) ∧ (vp_in (((80 : Int32) * a1) + v3) (st_L S (st_R S o 46))) ∧ ((((st_I S (st_R S o 46) (((80 : Int32) * a1) + v3).toNatClampNeg) = (-1 : Int32)) → wb_X7_owedOf_44 o a1 v3 v2 S K4 Q) ∧ ((¬ ((st_I S (st_R S o 46) (((80 : Int32) * a1) + v3).toNatClampNeg) = (-1 : Int32))) → wp_X7_isDue o a1 v3 S (fun z403 => (((z403 = 0) → (st_C S (st_R S o 12) = 50) ∧ (vp_in a1 (st_L S (st_R S o 12))) ∧ wb_X7_owedOf_45 o a1 v3 v2 (st_I S (st_R S o 12) a1.toNatClampNeg) S K4 Q) ∧ ((¬ (z403 = 0)) → wb_X7_owedOf_44 o a1 v3 v2 S K4 Q)))))) ∧ ((¬ (v3 < (80 : Int32))) → Q v2))
def wl_X7_owedOf_4 (o : Nat) (a1 : Int32) (v2 : Int32) (v3 : Int32) (S : hp_St) (Q : Int32 → Prop) : Prop := ∃ (I : Int32 → Int32 → Prop) (μ : Int32 → Int32 → Nat), I v2 v3 ∧ ∀ (v2 : Int32) (v3 : Int32), I v2 v3 → wb_X7_owedOf_4 o a1 v2 v3 S (fun v2' v3' => I v2' v3' ∧ μ v2' v3' < μ v2 v3) Q
def wp_X7_owedOf (o : Nat) (a1 : Int32) (S : hp_St) (Q : Int32 → Prop) : Prop := wl_X7_owedOf_4 o a1 (0 : Int32) (0 : Int32) S Q
theorem nf_X7_owedOf : hp_nf yX7_owedOf 1 = true := by decide +kernel
set_option maxHeartbeats 4000000 in
theorem m_X7_owedOf {l : Launch} {B : Nat} {D : va_G} {s0 : State} {b0 : Nat} (G : hp_G l B D s0 b0) (o : Nat) (a1 : Int32) (Si : hp_St) (Q : Int32 → Prop) (hc0 : st_C Si o = 7) (h : wp_X7_owedOf o a1 Si Q) : hp_M l B D s0 yX7_owedOf cX7_owedOf 4 (some .int) 4 256 0 0 [hp_v B o, .int a1] Si (hp_Qi B D s0 (fun r S' => S' = Si ∧ Q r)) := by
  refine hp_start G (by decide +kernel) rfl rfl (lv := [(0, hp_v B o), (1, .int a1)]) (by simp [lg_sl, hp_vc, hp_ci, hp_cj]) (by simp [lv_args, hp_vc, hp_ci, hp_cj]) ?_
  intro p e s m args below meth c E ls hl hR
  generalize hH : s.heap = H at hR ⊢
  generalize hLo : ([] : List Loc) = locs at hR ⊢
  have b4 : ∀ (v2 : Int32) (v3 : Int32) (H : Heap) (locs : List Loc) (ls : Array Slot), wl_X7_owedOf_4 o a1 v2 v3 Si Q → lv_has ls 4 [(0, hp_v B o), (1, .int a1), (2, .int v2), (3, .int v3)] → hp_S B D s0 Si H locs → W p l e ({ frames := 4, cells := 0, slots := 0, locals := 256 } : Room) s m args below meth c H locs 0 0 (MQ below (hp_Qi B D s0 (fun r S' => S' = Si ∧ Q r)) args s 0 0 (fun q => B < q)) (F0 m 4 ls []) := by
    intro v2 v3 H locs ls h hl hR
    obtain ⟨I4, μ4, hI, hst⟩ := h
    have key4 : ∀ (N : Nat) (v2 : Int32) (v3 : Int32) (H : Heap) (locs : List Loc) (ls : Array Slot), μ4 v2 v3 < N → I4 v2 v3 → lv_has ls 4 [(0, hp_v B o), (1, .int a1), (2, .int v2), (3, .int v3)] → hp_S B D s0 Si H locs → W p l e ({ frames := 4, cells := 0, slots := 0, locals := 256 } : Room) s m args below meth c H locs 0 0 (MQ below (hp_Qi B D s0 (fun r S' => S' = Si ∧ Q r)) args s 0 0 (fun q => B < q)) (F0 m 4 ls []) := by
      intro N
      induction N with
      | zero =>
        intro v2 v3 H locs ls hN
        exact absurd hN (Nat.not_lt_zero _)
      | succ N ih4 =>
        intro v2 v3 H locs ls hN hI hl hR
        have h := hst v2 v3 hI
        obtain ⟨K4, hKe4⟩ : ∃ K : Int32 → Int32 → Prop, K = (fun v2' v3' => I4 v2' v3' ∧ μ4 v2' v3' < μ4 v2 v3) := ⟨_, rfl⟩
        rw [← hKe4] at h
        have hK4 : ∀ (v2' : Int32) (v3' : Int32) (H : Heap) (locs : List Loc) (ls : Array Slot), K4 v2' v3' → lv_has ls 4 [(0, hp_v B o), (1, .int a1), (2, .int (v2')), (3, .int (v3'))] → hp_S B D s0 Si H locs → W p l e ({ frames := 4, cells := 0, slots := 0, locals := 256 } : Room) s m args below meth c H locs 0 0 (MQ below (hp_Qi B D s0 (fun r S' => S' = Si ∧ Q r)) args s 0 0 (fun q => B < q)) (F0 m 4 ls []) := by
          intro v2' v3' H locs ls hI hl hR
          rw [hKe4] at hI
          exact ih4 v2' v3' H locs ls (Nat.lt_of_lt_of_le hI.2 (Nat.le_of_lt_succ hN)) hI.1 hl hR
        have b45 : ∀ (v3 : Int32) (t0 : Int32) (t1 : Int32) (H : Heap) (locs : List Loc) (ls : Array Slot), wb_X7_owedOf_45 o a1 v3 t0 t1 Si K4 Q → lv_has ls 4 [(0, hp_v B o), (1, .int a1), (3, .int v3)] → hp_S B D s0 Si H locs → W p l e ({ frames := 4, cells := 0, slots := 0, locals := 256 } : Room) s m args below meth c H locs 0 0 (MQ below (hp_Qi B D s0 (fun r S' => S' = Si ∧ Q r)) args s 0 0 (fun q => B < q)) (F0 m 45 ls [.int t1, .int t0]) := by
          intro v3 t0 t1 H locs ls h hl hR
          unfold wb_X7_owedOf_45 at h
          refine hp_iadd E dX7_owedOf_45 (rfl : 45 + 1 = 46) ?_
          refine hp_istore_n E hl 2 rfl (lv' := [(0, hp_v B o), (1, .int a1), (3, .int v3)]) dX7_owedOf_46 (rfl : 46 + 1 = 47) (by decide) rfl (fun ls hl => ?_)
          refine hp_iinc E hl (v3 + (1 : Int32)) 3 (lv' := [(2, .int (t0 + t1)), (0, hp_v B o), (1, .int a1)]) dX7_owedOf_47 (rfl : 47 + 3 = 50) rfl (by first | rfl | (congr 1)) (by decide) rfl (fun ls hl => ?_)
          refine hp_goto E (tgt := 4) dX7_owedOf_50 (by decide) ?_
          exact hK4 _ _ _ _ _ h (lv_sub hl [2, 3, 1, 0] rfl) hR
        have b44 : ∀ (v3 : Int32) (t0 : Int32) (H : Heap) (locs : List Loc) (ls : Array Slot), wb_X7_owedOf_44 o a1 v3 t0 Si K4 Q → lv_has ls 4 [(0, hp_v B o), (1, .int a1), (3, .int v3)] → hp_S B D s0 Si H locs → W p l e ({ frames := 4, cells := 0, slots := 0, locals := 256 } : Room) s m args below meth c H locs 0 0 (MQ below (hp_Qi B D s0 (fun r S' => S' = Si ∧ Q r)) args s 0 0 (fun q => B < q)) (F0 m 44 ls [.int t0]) := by
          intro v3 t0 H locs ls h hl hR
          unfold wb_X7_owedOf_44 at h
          refine hp_iconst E (0 : Int32) (by decide) dX7_owedOf_44 (rfl : 44 + 1 = 45) ?_
          exact b45 _ _ _ _ _ _ h hl hR
        unfold wb_X7_owedOf_4 at h
        refine hp_iload_n E hl 3 rfl 3 rfl dX7_owedOf_4 (rfl : 4 + 1 = 5) ?_
        refine hp_bipush E (80 : Int32) (by decide) dX7_owedOf_5 (rfl : 5 + 2 = 7) ?_
        refine hp_icmp_ge E dX7_owedOf_7 (rfl : 7 + 3 = 10) (tgt := 53) (by decide) (fun hb => ?_) (fun hb => ?_)
        · have h := h.1 hb
          refine hp_iload_n E hl 2 rfl 2 rfl dX7_owedOf_10 (rfl : 10 + 1 = 11) ?_
          refine hp_aload_n E hl 0 rfl 0 rfl dX7_owedOf_11 (rfl : 11 + 1 = 12) ?_
          refine hp_getR E hR in_X7 hc0 rfl 46 (Nat.le_of_ble_eq_true rfl) rfl q1307 (fun _ h => h) dX7_owedOf_12 (rfl : 12 + 3 = 15) ?_
          refine hp_bipush E (80 : Int32) (by decide) dX7_owedOf_15 (rfl : 15 + 2 = 17) ?_
          refine hp_iload_n E hl 1 rfl 1 rfl dX7_owedOf_17 (rfl : 17 + 1 = 18) ?_
          refine hp_imul E dX7_owedOf_18 (rfl : 18 + 1 = 19) ?_
          refine hp_iload_n E hl 3 rfl 3 rfl dX7_owedOf_19 (rfl : 19 + 1 = 20) ?_
          refine hp_iadd E dX7_owedOf_20 (rfl : 20 + 1 = 21) ?_
          obtain ⟨hc401, h⟩ := h
          obtain ⟨hi402, h⟩ := h
          refine hp_iald E hR hc401 hi402 dX7_owedOf_21 (rfl : 21 + 1 = 22) ?_
          refine hp_iconst E (-1 : Int32) (by decide) dX7_owedOf_22 (rfl : 22 + 1 = 23) ?_
          refine hp_icmp_eq E dX7_owedOf_23 (rfl : 23 + 3 = 26) (tgt := 44) (by decide) (fun hb => ?_) (fun hb => ?_)
          · have h := h.1 hb
            exact b44 _ _ _ _ _ h (lv_sub hl [0, 1, 3] rfl) hR
          · have h := h.2 hb
            refine hp_aload_n E hl 0 rfl 0 rfl dX7_owedOf_26 (rfl : 26 + 1 = 27) ?_
            refine hp_iload_n E hl 1 rfl 1 rfl dX7_owedOf_27 (rfl : 27 + 1 = 28) ?_
            refine hp_iload_n E hl 3 rfl 3 rfl dX7_owedOf_28 (rfl : 28 + 1 = 29) ?_
            refine hp_fi (hp_rV E hR hl (m_X7_isDue G _ _ _ _ _ hc0 h) hc0 (ci := 6) rfl rfl q1601 q1603 qs56 q82 q1604 nf_X7_isDue ⟨Nat.le_of_ble_eq_true rfl, Nat.le_of_ble_eq_true rfl⟩ (rest := [.int v2]) rfl (Nat.le_of_ble_eq_true rfl) dX7_owedOf_29 ⟨Nat.le_of_ble_eq_true rfl, Nat.le_of_ble_eq_true rfl⟩) hR (rfl : 29 + 3 = 32) (fun z403 Sx H locs hq hR => ?_)
            obtain ⟨hSx, h⟩ := hq
            rw [hSx] at hR
            refine hp_if_ne E dX7_owedOf_32 (rfl : 32 + 3 = 35) (tgt := 44) (by decide) (fun hb => ?_) (fun hb => ?_)
            · have h := h.1 hb
              refine hp_aload_n E hl 0 rfl 0 rfl dX7_owedOf_35 (rfl : 35 + 1 = 36) ?_
              refine hp_getR E hR in_X7 hc0 rfl 12 (Nat.le_of_ble_eq_true rfl) rfl q1273 (fun _ h => h) dX7_owedOf_36 (rfl : 36 + 3 = 39) ?_
              refine hp_iload_n E hl 1 rfl 1 rfl dX7_owedOf_39 (rfl : 39 + 1 = 40) ?_
              obtain ⟨hc404, h⟩ := h
              obtain ⟨hi405, h⟩ := h
              refine hp_iald E hR hc404 hi405 dX7_owedOf_40 (rfl : 40 + 1 = 41) ?_
              refine hp_goto E (tgt := 45) dX7_owedOf_41 (by decide) ?_
              exact b45 _ _ _ _ _ _ h (lv_sub hl [0, 1, 3] rfl) hR
            · have h := h.2 hb
              exact b44 _ _ _ _ _ h (lv_sub hl [0, 1, 3] rfl) hR
        · have h := h.2 hb
          refine hp_iload_n E hl 2 rfl 2 rfl dX7_owedOf_53 (rfl : 53 + 1 = 54) ?_
          exact hp_iret E hR ⟨rfl, h⟩ (Nat.le_of_ble_eq_true rfl) (Nat.le_of_ble_eq_true rfl) dX7_owedOf_54
    exact key4 (μ4 v2 v3 + 1) v2 v3 H locs ls (Nat.lt_succ_self _) hI hl hR
  unfold wp_X7_owedOf at h
  refine hp_iconst E (0 : Int32) (by decide) dX7_owedOf_0 (rfl : 0 + 1 = 1) ?_
  refine hp_istore_n E hl 2 rfl (lv' := [(0, hp_v B o), (1, .int a1)]) dX7_owedOf_1 (rfl : 1 + 1 = 2) (by decide) rfl (fun ls hl => ?_)
  refine hp_iconst E (0 : Int32) (by decide) dX7_owedOf_2 (rfl : 2 + 1 = 3) ?_
  refine hp_istore_n E hl 3 rfl (lv' := [(2, .int (0 : Int32)), (0, hp_v B o), (1, .int a1)]) dX7_owedOf_3 (rfl : 3 + 1 = 4) (by decide) rfl (fun ls hl => ?_)
  exact b4 _ _ _ _ _ h (lv_sub hl [2, 3, 1, 0] rfl) hR
def wb_X7_owed_25 (o : Nat) (a1 : Int32) (a2 : Int32) (S : hp_St) (Q : Int32 → hp_St → Prop) : Prop := Q (-1 : Int32) S
def wp_X7_owed (o : Nat) (a1 : Int32) (a2 : Int32) (S : hp_St) (Q : Int32 → hp_St → Prop) : Prop := (∀ S1, S1 = st_pI S o 2 (0 : Int32) → wp_X7_isRent o a1 S1 (fun z4 => (((z4 = 0) → wb_X7_owed_25 o a1 a2 S1 Q) ∧ ((¬ (z4 = 0)) → wp_X7_isIn a2 (0 : Int32) (st_I S1 o 3) S1 (fun z5 => (((z5 = 0) → wb_X7_owed_25 o a1 a2 S1 Q) ∧ ((¬ (z5 = 0)) → wp_X7_pays o a2 S1 (fun S6 => hp_mono S1 S6 → wp_X7_owedOf o a1 S6 (fun z8 => Q z8 S6)))))))))
theorem nf_X7_owed : hp_nf yX7_owed 2 = true := by decide +kernel
set_option maxHeartbeats 4000000 in
theorem m_X7_owed {l : Launch} {B : Nat} {D : va_G} {s0 : State} {b0 : Nat} (G : hp_G l B D s0 b0) (o : Nat) (a1 : Int32) (a2 : Int32) (Si : hp_St) (Q : Int32 → hp_St → Prop) (hc0 : st_C Si o = 7) (h : wp_X7_owed o a1 a2 Si Q) : hp_M l B D s0 yX7_owed cX7_owed 3 (some .int) 5 320 0 0 [hp_v B o, .int a1, .int a2] Si (hp_Qi B D s0 (fun r S' => hp_mono Si S' ∧ Q r S')) := by
  refine hp_start G (by decide +kernel) rfl rfl (lv := [(0, hp_v B o), (1, .int a1), (2, .int a2)]) (by simp [lg_sl, hp_vc, hp_ci, hp_cj]) (by simp [lv_args, hp_vc, hp_ci, hp_cj]) ?_
  intro p e s m args below meth c E ls hl hR
  have hm : hp_mono Si Si := hp_mono.rf
  generalize hH : s.heap = H at hR ⊢
  generalize hLo : ([] : List Loc) = locs at hR ⊢
  have b25 : ∀ (S : hp_St) (H : Heap) (locs : List Loc) (ls : Array Slot), wb_X7_owed_25 o a1 a2 S Q → lv_has ls 3 [] → hp_S B D s0 S H locs → hp_mono Si S → W p l e ({ frames := 5, cells := 0, slots := 0, locals := 320 } : Room) s m args below meth c H locs 0 0 (MQ below (hp_Qi B D s0 (fun r S' => hp_mono Si S' ∧ Q r S')) args s 0 0 (fun q => B < q)) (F0 m 25 ls []) := by
    intro S H locs ls h hl hR hm
    unfold wb_X7_owed_25 at h
    refine hp_iconst E (-1 : Int32) (by decide) dX7_owed_25 (rfl : 25 + 1 = 26) ?_
    exact hp_iret E hR ⟨hm, h⟩ (Nat.le_of_ble_eq_true rfl) (Nat.le_of_ble_eq_true rfl) dX7_owed_26
  unfold wp_X7_owed at h
  refine hp_aload_n E hl 0 rfl 0 rfl dX7_owed_0 (rfl : 0 + 1 = 1) ?_
  refine hp_iconst E (0 : Int32) (by decide) dX7_owed_1 (rfl : 1 + 1 = 2) ?_
  refine hx_putI E hR in_X7 tyX7 tyX7_ok nmX7 hc0 rfl 2 (Nat.le_of_ble_eq_true rfl) rfl q1263 (fun _ h => h) (Or.inl rfl) (Or.inl rfl) dX7_owed_2 (rfl : 2 + 3 = 5) (fun S1 H locs e3 hm2 hR => ?_)
  have h := h S1 e3
  have hm := hp_mono.tr hm hm2
  refine hp_aload_n E hl 0 rfl 0 rfl dX7_owed_5 (rfl : 5 + 1 = 6) ?_
  refine hp_iload_n E hl 1 rfl 1 rfl dX7_owed_6 (rfl : 6 + 1 = 7) ?_
  refine hp_fi (hp_rV E hR hl (m_X7_isRent G _ _ _ _ (hp_mono.c hm hc0) h) (hp_mono.c hm hc0) (ci := 6) rfl rfl q1550 q1552 qs50 q82 q1553 nf_X7_isRent ⟨Nat.le_of_ble_eq_true rfl, Nat.le_of_ble_eq_true rfl⟩ (rest := []) rfl (Nat.le_of_ble_eq_true rfl) dX7_owed_7 ⟨Nat.le_of_ble_eq_true rfl, Nat.le_of_ble_eq_true rfl⟩) hR (rfl : 7 + 3 = 10) (fun z4 Sx H locs hq hR => ?_)
  obtain ⟨hSx, h⟩ := hq
  rw [hSx] at hR
  refine hp_if_eq E dX7_owed_10 (rfl : 10 + 3 = 13) (tgt := 25) (by decide) (fun hb => ?_) (fun hb => ?_)
  · have h := h.1 hb
    exact b25 _ _ _ _ h (lv_sub hl [] rfl) hR hm
  · have h := h.2 hb
    refine hp_iload_n E hl 2 rfl 2 rfl dX7_owed_13 (rfl : 13 + 1 = 14) ?_
    refine hp_iconst E (0 : Int32) (by decide) dX7_owed_14 (rfl : 14 + 1 = 15) ?_
    refine hp_aload_n E hl 0 rfl 0 rfl dX7_owed_15 (rfl : 15 + 1 = 16) ?_
    refine hp_getI E hR in_X7 (hp_mono.c hm hc0) rfl 3 (Nat.le_of_ble_eq_true rfl) rfl q1264 (fun _ h => h) dX7_owed_16 (rfl : 16 + 3 = 19) ?_
    refine hp_fi (hp_rS E hR hl (m_X7_isIn G _ _ _ _ _ h) q1504 q1505 q82 q1506 nf_X7_isIn ⟨Nat.le_of_ble_eq_true rfl, Nat.le_of_ble_eq_true rfl⟩ (rest := []) rfl (Nat.le_of_ble_eq_true rfl) dX7_owed_19 ⟨Nat.le_of_ble_eq_true rfl, Nat.le_of_ble_eq_true rfl⟩) hR (rfl : 19 + 3 = 22) (fun z5 Sx H locs hq hR => ?_)
    obtain ⟨hSx, h⟩ := hq
    rw [hSx] at hR
    refine hp_if_ne E dX7_owed_22 (rfl : 22 + 3 = 25) (tgt := 27) (by decide) (fun hb => ?_) (fun hb => ?_)
    · have h := h.1 hb
      exact b25 _ _ _ _ h (lv_sub hl [] rfl) hR hm
    · have h := h.2 hb
      refine hp_aload_n E hl 0 rfl 0 rfl dX7_owed_27 (rfl : 27 + 1 = 28) ?_
      refine hp_iload_n E hl 2 rfl 2 rfl dX7_owed_28 (rfl : 28 + 1 = 29) ?_
      refine hp_fv (hp_rV E hR hl (m_X7_pays G _ _ _ _ (hp_mono.c hm hc0) h) (hp_mono.c hm hc0) (ci := 6) rfl rfl q1597 q1599 qs55 q82 q1600 nf_X7_pays ⟨Nat.le_of_ble_eq_true rfl, Nat.le_of_ble_eq_true rfl⟩ (rest := []) rfl (Nat.le_of_ble_eq_true rfl) dX7_owed_29 ⟨Nat.le_of_ble_eq_true rfl, Nat.le_of_ble_eq_true rfl⟩) hR (rfl : 29 + 3 = 32) (fun S6 H locs hq hR => ?_)
      obtain ⟨hm7, h⟩ := hq
      have h := h hm7
      have hm := hp_mono.tr hm hm7
      refine hp_aload_n E hl 0 rfl 0 rfl dX7_owed_32 (rfl : 32 + 1 = 33) ?_
      refine hp_iload_n E hl 1 rfl 1 rfl dX7_owed_33 (rfl : 33 + 1 = 34) ?_
      refine hp_fi (hp_rV E hR hl (m_X7_owedOf G _ _ _ _ (hp_mono.c hm hc0) h) (hp_mono.c hm hc0) (ci := 6) rfl rfl q1625 q1627 qs60 q82 q1628 nf_X7_owedOf ⟨Nat.le_of_ble_eq_true rfl, Nat.le_of_ble_eq_true rfl⟩ (rest := []) rfl (Nat.le_of_ble_eq_true rfl) dX7_owed_34 ⟨Nat.le_of_ble_eq_true rfl, Nat.le_of_ble_eq_true rfl⟩) hR (rfl : 34 + 3 = 37) (fun z8 Sx H locs hq hR => ?_)
      obtain ⟨hSx, h⟩ := hq
      rw [hSx] at hR
      exact hp_iret E hR ⟨hm, h⟩ (Nat.le_of_ble_eq_true rfl) (Nat.le_of_ble_eq_true rfl) dX7_owed_37
def wb_X7_state_26 (o : Nat) (a1 : Int32) (a2 : Int32) (S : hp_St) (Q : Int32 → hp_St → Prop) : Prop := Q (-1 : Int32) S
def wb_X7_state_109 (o : Nat) (a1 : Int32) (a2 : Int32) (v3 : Int32) (S : hp_St) (Q : Int32 → hp_St → Prop) : Prop := Q v3 S
def wb_X7_state_101 (o : Nat) (a1 : Int32) (a2 : Int32) (v4 : Int32) (t0 : Int32) (t1 : Int32) (S : hp_St) (K50 : Int32 → Int32 → Prop) (Q : Int32 → hp_St → Prop) : Prop := K50 (t0 + t1) (v4 + (1 : Int32))
def wb_X7_state_50 (o : Nat) (a1 : Int32) (a2 : Int32) (v3 : Int32) (v4 : Int32) (S : hp_St) (K50 : Int32 → Int32 → Prop) (Q : Int32 → hp_St → Prop) : Prop := (((v4 < (st_I S o 7)) → (((a2 = (1 : Int32)) → wb_X7_state_109 o a1 a2 v3 S Q) ∧ ((¬ (a2 = (1 : Int32))) → (((a2 = (2 : Int32)) → wp_X7_owedOf o v4 S (fun z5001 => wb_X7_state_101 o a1 a2 v4 v3 z5001 S K50 Q)) ∧ ((¬ (a2 = (2 : Int32))) → (st_C S (st_R S o 8) = 50) ∧ (vp_in v4 (st_L S (st_R S o 8))) ∧ ((((st_I S (st_R S o 8) v4.toNatClampNeg) ≤ a1) → (st_C S (st_R S o 13) = 50) ∧ (vp_in v4 (st_L S (st_R S o 13))) ∧ wb_X7_state_101 o a1 a2 v4 v3 (st_I S (st_R S o 13) v4.toNatClampNeg) S K50 Q) ∧ ((¬ ((st_I S (st_R S o 8) v4.toNatClampNeg) ≤ a1)) → wb_X7_state_101 o a1 a2 v4 v3 (0 : Int32) S K50 Q))))))) ∧ ((¬ (v4 < (st_I S o 7))) → wb_X7_state_109 o a1 a2 v3 S Q))
def wl_X7_state_50 (o : Nat) (a1 : Int32) (a2 : Int32) (v3 : Int32) (v4 : Int32) (S : hp_St) (Q : Int32 → hp_St → Prop) : Prop := ∃ (I : Int32 → Int32 → Prop) (μ : Int32 → Int32 → Nat), I v3 v4 ∧ ∀ (v3 : Int32) (v4 : Int32), I v3 v4 → wb_X7_state_50 o a1 a2 v3 v4 S (fun v3' v4' => I v3' v4' ∧ μ v3' v4' < μ v3 v4) Q
def wb_X7_state_46 (o : Nat) (a1 : Int32) (a2 : Int32) (t0 : Int32) (S : hp_St) (Q : Int32 → hp_St → Prop) : Prop := wl_X7_state_50 o a1 a2 t0 (0 : Int32) S Q
def wp_X7_state (o : Nat) (a1 : Int32) (a2 : Int32) (S : hp_St) (Q : Int32 → hp_St → Prop) : Prop := (∀ S1, S1 = st_pI S o 2 (0 : Int32) → wp_X7_isIn a1 (0 : Int32) (st_I S1 o 3) S1 (fun z4 => (((z4 = 0) → wb_X7_state_26 o a1 a2 S1 Q) ∧ ((¬ (z4 = 0)) → wp_X7_isIn a2 (0 : Int32) (2 : Int32) S1 (fun z5 => (((z5 = 0) → wb_X7_state_26 o a1 a2 S1 Q) ∧ ((¬ (z5 = 0)) → wp_X7_pays o a1 S1 (fun S6 => hp_mono S1 S6 → (((a2 = (1 : Int32)) → wb_X7_state_46 o a1 a2 (st_I S6 o 48) S6 Q) ∧ ((¬ (a2 = (1 : Int32))) → wb_X7_state_46 o a1 a2 (0 : Int32) S6 Q))))))))))
theorem nf_X7_state : hp_nf yX7_state 2 = true := by decide +kernel
set_option maxHeartbeats 4000000 in
theorem m_X7_state {l : Launch} {B : Nat} {D : va_G} {s0 : State} {b0 : Nat} (G : hp_G l B D s0 b0) (o : Nat) (a1 : Int32) (a2 : Int32) (Si : hp_St) (Q : Int32 → hp_St → Prop) (hc0 : st_C Si o = 7) (h : wp_X7_state o a1 a2 Si Q) : hp_M l B D s0 yX7_state cX7_state 5 (some .int) 5 320 0 0 [hp_v B o, .int a1, .int a2] Si (hp_Qi B D s0 (fun r S' => hp_mono Si S' ∧ Q r S')) := by
  refine hp_start G (by decide +kernel) rfl rfl (lv := [(0, hp_v B o), (1, .int a1), (2, .int a2)]) (by simp [lg_sl, hp_vc, hp_ci, hp_cj]) (by simp [lv_args, hp_vc, hp_ci, hp_cj]) ?_
  intro p e s m args below meth c E ls hl hR
  have hm : hp_mono Si Si := hp_mono.rf
  generalize hH : s.heap = H at hR ⊢
  generalize hLo : ([] : List Loc) = locs at hR ⊢
  have b26 : ∀ (S : hp_St) (H : Heap) (locs : List Loc) (ls : Array Slot), wb_X7_state_26 o a1 a2 S Q → lv_has ls 5 [] → hp_S B D s0 S H locs → hp_mono Si S → W p l e ({ frames := 5, cells := 0, slots := 0, locals := 320 } : Room) s m args below meth c H locs 0 0 (MQ below (hp_Qi B D s0 (fun r S' => hp_mono Si S' ∧ Q r S')) args s 0 0 (fun q => B < q)) (F0 m 26 ls []) := by
    intro S H locs ls h hl hR hm
    unfold wb_X7_state_26 at h
    refine hp_iconst E (-1 : Int32) (by decide) dX7_state_26 (rfl : 26 + 1 = 27) ?_
    exact hp_iret E hR ⟨hm, h⟩ (Nat.le_of_ble_eq_true rfl) (Nat.le_of_ble_eq_true rfl) dX7_state_27
  have b109 : ∀ (v3 : Int32) (S : hp_St) (H : Heap) (locs : List Loc) (ls : Array Slot), wb_X7_state_109 o a1 a2 v3 S Q → lv_has ls 5 [(3, .int v3)] → hp_S B D s0 S H locs → hp_mono Si S → W p l e ({ frames := 5, cells := 0, slots := 0, locals := 320 } : Room) s m args below meth c H locs 0 0 (MQ below (hp_Qi B D s0 (fun r S' => hp_mono Si S' ∧ Q r S')) args s 0 0 (fun q => B < q)) (F0 m 109 ls []) := by
    intro v3 S H locs ls h hl hR hm
    unfold wb_X7_state_109 at h
    refine hp_iload_n E hl 3 rfl 0 rfl dX7_state_109 (rfl : 109 + 1 = 110) ?_
    exact hp_iret E hR ⟨hm, h⟩ (Nat.le_of_ble_eq_true rfl) (Nat.le_of_ble_eq_true rfl) dX7_state_110
  have b50 : ∀ (v3 : Int32) (v4 : Int32) (S : hp_St) (H : Heap) (locs : List Loc) (ls : Array Slot), wl_X7_state_50 o a1 a2 v3 v4 S Q → lv_has ls 5 [(0, hp_v B o), (1, .int a1), (2, .int a2), (3, .int v3), (4, .int v4)] → hp_S B D s0 S H locs → hp_mono Si S → W p l e ({ frames := 5, cells := 0, slots := 0, locals := 320 } : Room) s m args below meth c H locs 0 0 (MQ below (hp_Qi B D s0 (fun r S' => hp_mono Si S' ∧ Q r S')) args s 0 0 (fun q => B < q)) (F0 m 50 ls []) := by
    intro v3 v4 S H locs ls h hl hR hm
    obtain ⟨I50, μ50, hI, hst⟩ := h
    have key50 : ∀ (N : Nat) (v3 : Int32) (v4 : Int32) (H : Heap) (locs : List Loc) (ls : Array Slot), μ50 v3 v4 < N → I50 v3 v4 → lv_has ls 5 [(0, hp_v B o), (1, .int a1), (2, .int a2), (3, .int v3), (4, .int v4)] → hp_S B D s0 S H locs → W p l e ({ frames := 5, cells := 0, slots := 0, locals := 320 } : Room) s m args below meth c H locs 0 0 (MQ below (hp_Qi B D s0 (fun r S' => hp_mono Si S' ∧ Q r S')) args s 0 0 (fun q => B < q)) (F0 m 50 ls []) := by
      intro N
      induction N with
      | zero =>
        intro v3 v4 H locs ls hN
        exact absurd hN (Nat.not_lt_zero _)
      | succ N ih50 =>
        intro v3 v4 H locs ls hN hI hl hR
        have h := hst v3 v4 hI
        obtain ⟨K50, hKe50⟩ : ∃ K : Int32 → Int32 → Prop, K = (fun v3' v4' => I50 v3' v4' ∧ μ50 v3' v4' < μ50 v3 v4) := ⟨_, rfl⟩
        rw [← hKe50] at h
        have hK50 : ∀ (v3' : Int32) (v4' : Int32) (H : Heap) (locs : List Loc) (ls : Array Slot), K50 v3' v4' → lv_has ls 5 [(0, hp_v B o), (1, .int a1), (2, .int a2), (3, .int (v3')), (4, .int (v4'))] → hp_S B D s0 S H locs → W p l e ({ frames := 5, cells := 0, slots := 0, locals := 320 } : Room) s m args below meth c H locs 0 0 (MQ below (hp_Qi B D s0 (fun r S' => hp_mono Si S' ∧ Q r S')) args s 0 0 (fun q => B < q)) (F0 m 50 ls []) := by
          intro v3' v4' H locs ls hI hl hR
          rw [hKe50] at hI
          exact ih50 v3' v4' H locs ls (Nat.lt_of_lt_of_le hI.2 (Nat.le_of_lt_succ hN)) hI.1 hl hR
        have b101 : ∀ (v4 : Int32) (t0 : Int32) (t1 : Int32) (H : Heap) (locs : List Loc) (ls : Array Slot), wb_X7_state_101 o a1 a2 v4 t0 t1 S K50 Q → lv_has ls 5 [(0, hp_v B o), (1, .int a1), (2, .int a2), (4, .int v4)] → hp_S B D s0 S H locs → W p l e ({ frames := 5, cells := 0, slots := 0, locals := 320 } : Room) s m args below meth c H locs 0 0 (MQ below (hp_Qi B D s0 (fun r S' => hp_mono Si S' ∧ Q r S')) args s 0 0 (fun q => B < q)) (F0 m 101 ls [.int t1, .int t0]) := by
          intro v4 t0 t1 H locs ls h hl hR
          unfold wb_X7_state_101 at h
          refine hp_iadd E dX7_state_101 (rfl : 101 + 1 = 102) ?_
          refine hp_istore_n E hl 3 rfl (lv' := [(0, hp_v B o), (1, .int a1), (2, .int a2), (4, .int v4)]) dX7_state_102 (rfl : 102 + 1 = 103) (by decide) rfl (fun ls hl => ?_)
          refine hp_iinc E hl (v4 + (1 : Int32)) 4 (lv' := [(3, .int (t0 + t1)), (0, hp_v B o), (1, .int a1), (2, .int a2)]) dX7_state_103 (rfl : 103 + 3 = 106) rfl (by first | rfl | (congr 1)) (by decide) rfl (fun ls hl => ?_)
          refine hp_goto E (tgt := 50) dX7_state_106 (by decide) ?_
          exact hK50 _ _ _ _ _ h (lv_sub hl [2, 3, 4, 1, 0] rfl) hR
        unfold wb_X7_state_50 at h
        refine hp_iload E hl 4 rfl dX7_state_50 (rfl : 50 + 2 = 52) ?_
        refine hp_aload_n E hl 0 rfl 0 rfl dX7_state_52 (rfl : 52 + 1 = 53) ?_
        refine hp_getI E hR in_X7 (hp_mono.c hm hc0) rfl 7 (Nat.le_of_ble_eq_true rfl) rfl q1268 (fun _ h => h) dX7_state_53 (rfl : 53 + 3 = 56) ?_
        refine hp_icmp_ge E dX7_state_56 (rfl : 56 + 3 = 59) (tgt := 109) (by decide) (fun hb => ?_) (fun hb => ?_)
        · have h := h.1 hb
          refine hp_iload_n E hl 2 rfl 2 rfl dX7_state_59 (rfl : 59 + 1 = 60) ?_
          refine hp_iconst E (1 : Int32) (by decide) dX7_state_60 (rfl : 60 + 1 = 61) ?_
          refine hp_icmp_eq E dX7_state_61 (rfl : 61 + 3 = 64) (tgt := 109) (by decide) (fun hb => ?_) (fun hb => ?_)
          · have h := h.1 hb
            exact b109 _ _ _ _ _ h (lv_sub hl [3] rfl) hR hm
          · have h := h.2 hb
            refine hp_iload_n E hl 3 rfl 3 rfl dX7_state_64 (rfl : 64 + 1 = 65) ?_
            refine hp_iload_n E hl 2 rfl 2 rfl dX7_state_65 (rfl : 65 + 1 = 66) ?_
            refine hp_iconst E (2 : Int32) (by decide) dX7_state_66 (rfl : 66 + 1 = 67) ?_
            refine hp_icmp_ne E dX7_state_67 (rfl : 67 + 3 = 70) (tgt := 79) (by decide) (fun hb => ?_) (fun hb => ?_)
            · have h := h.1 hb
              refine hp_aload_n E hl 0 rfl 0 rfl dX7_state_70 (rfl : 70 + 1 = 71) ?_
              refine hp_iload E hl 4 rfl dX7_state_71 (rfl : 71 + 2 = 73) ?_
              refine hp_fi (hp_rV E hR hl (m_X7_owedOf G _ _ _ _ (hp_mono.c hm hc0) h) (hp_mono.c hm hc0) (ci := 6) rfl rfl q1625 q1627 qs60 q82 q1628 nf_X7_owedOf ⟨Nat.le_of_ble_eq_true rfl, Nat.le_of_ble_eq_true rfl⟩ (rest := [.int v3]) rfl (Nat.le_of_ble_eq_true rfl) dX7_state_73 ⟨Nat.le_of_ble_eq_true rfl, Nat.le_of_ble_eq_true rfl⟩) hR (rfl : 73 + 3 = 76) (fun z5001 Sx H locs hq hR => ?_)
              obtain ⟨hSx, h⟩ := hq
              rw [hSx] at hR
              refine hp_goto E (tgt := 101) dX7_state_76 (by decide) ?_
              exact b101 _ _ _ _ _ _ h (lv_sub hl [0, 1, 2, 4] rfl) hR
            · have h := h.2 hb
              refine hp_aload_n E hl 0 rfl 0 rfl dX7_state_79 (rfl : 79 + 1 = 80) ?_
              refine hp_getR E hR in_X7 (hp_mono.c hm hc0) rfl 8 (Nat.le_of_ble_eq_true rfl) rfl q1269 (fun _ h => h) dX7_state_80 (rfl : 80 + 3 = 83) ?_
              refine hp_iload E hl 4 rfl dX7_state_83 (rfl : 83 + 2 = 85) ?_
              obtain ⟨hc5002, h⟩ := h
              obtain ⟨hi5003, h⟩ := h
              refine hp_iald E hR hc5002 hi5003 dX7_state_85 (rfl : 85 + 1 = 86) ?_
              refine hp_iload_n E hl 1 rfl 1 rfl dX7_state_86 (rfl : 86 + 1 = 87) ?_
              refine hp_icmp_gt E dX7_state_87 (rfl : 87 + 3 = 90) (tgt := 100) (by decide) (fun hb => ?_) (fun hb => ?_)
              · have h := h.1 hb
                refine hp_aload_n E hl 0 rfl 0 rfl dX7_state_90 (rfl : 90 + 1 = 91) ?_
                refine hp_getR E hR in_X7 (hp_mono.c hm hc0) rfl 13 (Nat.le_of_ble_eq_true rfl) rfl q1274 (fun _ h => h) dX7_state_91 (rfl : 91 + 3 = 94) ?_
                refine hp_iload E hl 4 rfl dX7_state_94 (rfl : 94 + 2 = 96) ?_
                obtain ⟨hc5004, h⟩ := h
                obtain ⟨hi5005, h⟩ := h
                refine hp_iald E hR hc5004 hi5005 dX7_state_96 (rfl : 96 + 1 = 97) ?_
                refine hp_goto E (tgt := 101) dX7_state_97 (by decide) ?_
                exact b101 _ _ _ _ _ _ h (lv_sub hl [0, 1, 2, 4] rfl) hR
              · have h := h.2 hb
                refine hp_iconst E (0 : Int32) (by decide) dX7_state_100 (rfl : 100 + 1 = 101) ?_
                exact b101 _ _ _ _ _ _ h (lv_sub hl [0, 1, 2, 4] rfl) hR
        · have h := h.2 hb
          exact b109 _ _ _ _ _ h (lv_sub hl [3] rfl) hR hm
    exact key50 (μ50 v3 v4 + 1) v3 v4 H locs ls (Nat.lt_succ_self _) hI hl hR
  have b46 : ∀ (t0 : Int32) (S : hp_St) (H : Heap) (locs : List Loc) (ls : Array Slot), wb_X7_state_46 o a1 a2 t0 S Q → lv_has ls 5 [(0, hp_v B o), (1, .int a1), (2, .int a2)] → hp_S B D s0 S H locs → hp_mono Si S → W p l e ({ frames := 5, cells := 0, slots := 0, locals := 320 } : Room) s m args below meth c H locs 0 0 (MQ below (hp_Qi B D s0 (fun r S' => hp_mono Si S' ∧ Q r S')) args s 0 0 (fun q => B < q)) (F0 m 46 ls [.int t0]) := by
    intro t0 S H locs ls h hl hR hm
    unfold wb_X7_state_46 at h
    refine hp_istore_n E hl 3 rfl (lv' := [(0, hp_v B o), (1, .int a1), (2, .int a2)]) dX7_state_46 (rfl : 46 + 1 = 47) (by decide) rfl (fun ls hl => ?_)
    refine hp_iconst E (0 : Int32) (by decide) dX7_state_47 (rfl : 47 + 1 = 48) ?_
    refine hp_istore E hl 4 (lv' := [(3, .int t0), (0, hp_v B o), (1, .int a1), (2, .int a2)]) dX7_state_48 (rfl : 48 + 2 = 50) (by decide) rfl (fun ls hl => ?_)
    exact b50 _ _ _ _ _ _ h (lv_sub hl [2, 3, 4, 1, 0] rfl) hR hm
  unfold wp_X7_state at h
  refine hp_aload_n E hl 0 rfl 0 rfl dX7_state_0 (rfl : 0 + 1 = 1) ?_
  refine hp_iconst E (0 : Int32) (by decide) dX7_state_1 (rfl : 1 + 1 = 2) ?_
  refine hx_putI E hR in_X7 tyX7 tyX7_ok nmX7 hc0 rfl 2 (Nat.le_of_ble_eq_true rfl) rfl q1263 (fun _ h => h) (Or.inl rfl) (Or.inl rfl) dX7_state_2 (rfl : 2 + 3 = 5) (fun S1 H locs e3 hm2 hR => ?_)
  have h := h S1 e3
  have hm := hp_mono.tr hm hm2
  refine hp_iload_n E hl 1 rfl 1 rfl dX7_state_5 (rfl : 5 + 1 = 6) ?_
  refine hp_iconst E (0 : Int32) (by decide) dX7_state_6 (rfl : 6 + 1 = 7) ?_
  refine hp_aload_n E hl 0 rfl 0 rfl dX7_state_7 (rfl : 7 + 1 = 8) ?_
  refine hp_getI E hR in_X7 (hp_mono.c hm hc0) rfl 3 (Nat.le_of_ble_eq_true rfl) rfl q1264 (fun _ h => h) dX7_state_8 (rfl : 8 + 3 = 11) ?_
  refine hp_fi (hp_rS E hR hl (m_X7_isIn G _ _ _ _ _ h) q1504 q1505 q82 q1506 nf_X7_isIn ⟨Nat.le_of_ble_eq_true rfl, Nat.le_of_ble_eq_true rfl⟩ (rest := []) rfl (Nat.le_of_ble_eq_true rfl) dX7_state_11 ⟨Nat.le_of_ble_eq_true rfl, Nat.le_of_ble_eq_true rfl⟩) hR (rfl : 11 + 3 = 14) (fun z4 Sx H locs hq hR => ?_)
  obtain ⟨hSx, h⟩ := hq
  rw [hSx] at hR
  refine hp_if_eq E dX7_state_14 (rfl : 14 + 3 = 17) (tgt := 26) (by decide) (fun hb => ?_) (fun hb => ?_)
  · have h := h.1 hb
    exact b26 _ _ _ _ h (lv_sub hl [] rfl) hR hm
  · have h := h.2 hb
    refine hp_iload_n E hl 2 rfl 2 rfl dX7_state_17 (rfl : 17 + 1 = 18) ?_
    refine hp_iconst E (0 : Int32) (by decide) dX7_state_18 (rfl : 18 + 1 = 19) ?_
    refine hp_iconst E (2 : Int32) (by decide) dX7_state_19 (rfl : 19 + 1 = 20) ?_
    refine hp_fi (hp_rS E hR hl (m_X7_isIn G _ _ _ _ _ h) q1504 q1505 q82 q1506 nf_X7_isIn ⟨Nat.le_of_ble_eq_true rfl, Nat.le_of_ble_eq_true rfl⟩ (rest := []) rfl (Nat.le_of_ble_eq_true rfl) dX7_state_20 ⟨Nat.le_of_ble_eq_true rfl, Nat.le_of_ble_eq_true rfl⟩) hR (rfl : 20 + 3 = 23) (fun z5 Sx H locs hq hR => ?_)
    obtain ⟨hSx, h⟩ := hq
    rw [hSx] at hR
    refine hp_if_ne E dX7_state_23 (rfl : 23 + 3 = 26) (tgt := 28) (by decide) (fun hb => ?_) (fun hb => ?_)
    · have h := h.1 hb
      exact b26 _ _ _ _ h (lv_sub hl [] rfl) hR hm
    · have h := h.2 hb
      refine hp_aload_n E hl 0 rfl 0 rfl dX7_state_28 (rfl : 28 + 1 = 29) ?_
      refine hp_iload_n E hl 1 rfl 1 rfl dX7_state_29 (rfl : 29 + 1 = 30) ?_
      refine hp_fv (hp_rV E hR hl (m_X7_pays G _ _ _ _ (hp_mono.c hm hc0) h) (hp_mono.c hm hc0) (ci := 6) rfl rfl q1597 q1599 qs55 q82 q1600 nf_X7_pays ⟨Nat.le_of_ble_eq_true rfl, Nat.le_of_ble_eq_true rfl⟩ (rest := []) rfl (Nat.le_of_ble_eq_true rfl) dX7_state_30 ⟨Nat.le_of_ble_eq_true rfl, Nat.le_of_ble_eq_true rfl⟩) hR (rfl : 30 + 3 = 33) (fun S6 H locs hq hR => ?_)
      obtain ⟨hm7, h⟩ := hq
      have h := h hm7
      have hm := hp_mono.tr hm hm7
      refine hp_iload_n E hl 2 rfl 2 rfl dX7_state_33 (rfl : 33 + 1 = 34) ?_
      refine hp_iconst E (1 : Int32) (by decide) dX7_state_34 (rfl : 34 + 1 = 35) ?_
      refine hp_icmp_ne E dX7_state_35 (rfl : 35 + 3 = 38) (tgt := 45) (by decide) (fun hb => ?_) (fun hb => ?_)
      · have h := h.1 hb
        refine hp_aload_n E hl 0 rfl 0 rfl dX7_state_38 (rfl : 38 + 1 = 39) ?_
        refine hp_getI E hR in_X7 (hp_mono.c hm hc0) rfl 48 (Nat.le_of_ble_eq_true rfl) rfl q1309 (fun _ h => h) dX7_state_39 (rfl : 39 + 3 = 42) ?_
        refine hp_goto E (tgt := 46) dX7_state_42 (by decide) ?_
        exact b46 _ _ _ _ _ h hl hR hm
      · have h := h.2 hb
        refine hp_iconst E (0 : Int32) (by decide) dX7_state_45 (rfl : 45 + 1 = 46) ?_
        exact b46 _ _ _ _ _ h hl hR hm
def wb_X7_sold_35 (o : Nat) (a1 : Int32) (a2 : Int32) (a3 : Int32) (S : hp_St) (Q : Int32 → hp_St → Prop) : Prop := Q (0 : Int32) S
def wp_X7_sold (o : Nat) (a1 : Int32) (a2 : Int32) (a3 : Int32) (S : hp_St) (Q : Int32 → hp_St → Prop) : Prop := (∀ S1, S1 = st_pI S o 2 (0 : Int32) → wp_X7_isIn a1 (0 : Int32) (3 : Int32) S1 (fun z4 => (((z4 = 0) → wb_X7_sold_35 o a1 a2 a3 S1 Q) ∧ ((¬ (z4 = 0)) → wp_X7_isIn a2 (0 : Int32) (9 : Int32) S1 (fun z5 => (((z5 = 0) → wb_X7_sold_35 o a1 a2 a3 S1 Q) ∧ ((¬ (z5 = 0)) → wp_X7_isIn a3 (0 : Int32) (1000 : Int32) S1 (fun z6 => (((z6 = 0) → wb_X7_sold_35 o a1 a2 a3 S1 Q) ∧ ((¬ (z6 = 0)) → (st_C S1 (st_R S1 o 21) = 50) ∧ (vp_in (((10 : Int32) * a1) + a2) (st_L S1 (st_R S1 o 21))) ∧ (∀ S9, S9 = st_pI S1 (st_R S1 o 21) (((10 : Int32) * a1) + a2).toNatClampNeg a3 → Q (1 : Int32) S9)))))))))))
theorem nf_X7_sold : hp_nf yX7_sold 3 = true := by decide +kernel
set_option maxHeartbeats 4000000 in
theorem m_X7_sold {l : Launch} {B : Nat} {D : va_G} {s0 : State} {b0 : Nat} (G : hp_G l B D s0 b0) (o : Nat) (a1 : Int32) (a2 : Int32) (a3 : Int32) (Si : hp_St) (Q : Int32 → hp_St → Prop) (hc0 : st_C Si o = 7) (h : wp_X7_sold o a1 a2 a3 Si Q) : hp_M l B D s0 yX7_sold cX7_sold 4 (some .boolean) 3 192 0 0 [hp_v B o, .int a1, .int a2, .int a3] Si (hp_Qi B D s0 (fun r S' => hp_mono Si S' ∧ Q r S')) := by
  refine hp_start G (by decide +kernel) rfl rfl (lv := [(0, hp_v B o), (1, .int a1), (2, .int a2), (3, .int a3)]) (by simp [lg_sl, hp_vc, hp_ci, hp_cj]) (by simp [lv_args, hp_vc, hp_ci, hp_cj]) ?_
  intro p e s m args below meth c E ls hl hR
  have hm : hp_mono Si Si := hp_mono.rf
  generalize hH : s.heap = H at hR ⊢
  generalize hLo : ([] : List Loc) = locs at hR ⊢
  have b35 : ∀ (S : hp_St) (H : Heap) (locs : List Loc) (ls : Array Slot), wb_X7_sold_35 o a1 a2 a3 S Q → lv_has ls 4 [] → hp_S B D s0 S H locs → hp_mono Si S → W p l e ({ frames := 3, cells := 0, slots := 0, locals := 192 } : Room) s m args below meth c H locs 0 0 (MQ below (hp_Qi B D s0 (fun r S' => hp_mono Si S' ∧ Q r S')) args s 0 0 (fun q => B < q)) (F0 m 35 ls []) := by
    intro S H locs ls h hl hR hm
    unfold wb_X7_sold_35 at h
    refine hp_iconst E (0 : Int32) (by decide) dX7_sold_35 (rfl : 35 + 1 = 36) ?_
    exact hp_zret E hR (Or.inl rfl) ⟨hm, h⟩ (Nat.le_of_ble_eq_true rfl) (Nat.le_of_ble_eq_true rfl) dX7_sold_36
  unfold wp_X7_sold at h
  refine hp_aload_n E hl 0 rfl 0 rfl dX7_sold_0 (rfl : 0 + 1 = 1) ?_
  refine hp_iconst E (0 : Int32) (by decide) dX7_sold_1 (rfl : 1 + 1 = 2) ?_
  refine hx_putI E hR in_X7 tyX7 tyX7_ok nmX7 hc0 rfl 2 (Nat.le_of_ble_eq_true rfl) rfl q1263 (fun _ h => h) (Or.inl rfl) (Or.inl rfl) dX7_sold_2 (rfl : 2 + 3 = 5) (fun S1 H locs e3 hm2 hR => ?_)
  have h := h S1 e3
  have hm := hp_mono.tr hm hm2
  refine hp_iload_n E hl 1 rfl 1 rfl dX7_sold_5 (rfl : 5 + 1 = 6) ?_
  refine hp_iconst E (0 : Int32) (by decide) dX7_sold_6 (rfl : 6 + 1 = 7) ?_
  refine hp_iconst E (3 : Int32) (by decide) dX7_sold_7 (rfl : 7 + 1 = 8) ?_
  refine hp_fi (hp_rS E hR hl (m_X7_isIn G _ _ _ _ _ h) q1504 q1505 q82 q1506 nf_X7_isIn ⟨Nat.le_of_ble_eq_true rfl, Nat.le_of_ble_eq_true rfl⟩ (rest := []) rfl (Nat.le_of_ble_eq_true rfl) dX7_sold_8 ⟨Nat.le_of_ble_eq_true rfl, Nat.le_of_ble_eq_true rfl⟩) hR (rfl : 8 + 3 = 11) (fun z4 Sx H locs hq hR => ?_)
  obtain ⟨hSx, h⟩ := hq
  rw [hSx] at hR
  refine hp_if_eq E dX7_sold_11 (rfl : 11 + 3 = 14) (tgt := 35) (by decide) (fun hb => ?_) (fun hb => ?_)
  · have h := h.1 hb
    exact b35 _ _ _ _ h (lv_sub hl [] rfl) hR hm
  · have h := h.2 hb
    refine hp_iload_n E hl 2 rfl 2 rfl dX7_sold_14 (rfl : 14 + 1 = 15) ?_
    refine hp_iconst E (0 : Int32) (by decide) dX7_sold_15 (rfl : 15 + 1 = 16) ?_
    refine hp_bipush E (9 : Int32) (by decide) dX7_sold_16 (rfl : 16 + 2 = 18) ?_
    refine hp_fi (hp_rS E hR hl (m_X7_isIn G _ _ _ _ _ h) q1504 q1505 q82 q1506 nf_X7_isIn ⟨Nat.le_of_ble_eq_true rfl, Nat.le_of_ble_eq_true rfl⟩ (rest := []) rfl (Nat.le_of_ble_eq_true rfl) dX7_sold_18 ⟨Nat.le_of_ble_eq_true rfl, Nat.le_of_ble_eq_true rfl⟩) hR (rfl : 18 + 3 = 21) (fun z5 Sx H locs hq hR => ?_)
    obtain ⟨hSx, h⟩ := hq
    rw [hSx] at hR
    refine hp_if_eq E dX7_sold_21 (rfl : 21 + 3 = 24) (tgt := 35) (by decide) (fun hb => ?_) (fun hb => ?_)
    · have h := h.1 hb
      exact b35 _ _ _ _ h (lv_sub hl [] rfl) hR hm
    · have h := h.2 hb
      refine hp_iload_n E hl 3 rfl 3 rfl dX7_sold_24 (rfl : 24 + 1 = 25) ?_
      refine hp_iconst E (0 : Int32) (by decide) dX7_sold_25 (rfl : 25 + 1 = 26) ?_
      refine hp_sipush E (1000 : Int32) (by decide) dX7_sold_26 (rfl : 26 + 3 = 29) ?_
      refine hp_fi (hp_rS E hR hl (m_X7_isIn G _ _ _ _ _ h) q1504 q1505 q82 q1506 nf_X7_isIn ⟨Nat.le_of_ble_eq_true rfl, Nat.le_of_ble_eq_true rfl⟩ (rest := []) rfl (Nat.le_of_ble_eq_true rfl) dX7_sold_29 ⟨Nat.le_of_ble_eq_true rfl, Nat.le_of_ble_eq_true rfl⟩) hR (rfl : 29 + 3 = 32) (fun z6 Sx H locs hq hR => ?_)
      obtain ⟨hSx, h⟩ := hq
      rw [hSx] at hR
      refine hp_if_ne E dX7_sold_32 (rfl : 32 + 3 = 35) (tgt := 37) (by decide) (fun hb => ?_) (fun hb => ?_)
      · have h := h.1 hb
        exact b35 _ _ _ _ h (lv_sub hl [] rfl) hR hm
      · have h := h.2 hb
        refine hp_aload_n E hl 0 rfl 0 rfl dX7_sold_37 (rfl : 37 + 1 = 38) ?_
        refine hp_getR E hR in_X7 (hp_mono.c hm hc0) rfl 21 (Nat.le_of_ble_eq_true rfl) rfl q1282 (fun _ h => h) dX7_sold_38 (rfl : 38 + 3 = 41) ?_
        refine hp_bipush E (10 : Int32) (by decide) dX7_sold_41 (rfl : 41 + 2 = 43) ?_
        refine hp_iload_n E hl 1 rfl 1 rfl dX7_sold_43 (rfl : 43 + 1 = 44) ?_
        refine hp_imul E dX7_sold_44 (rfl : 44 + 1 = 45) ?_
        refine hp_iload_n E hl 2 rfl 2 rfl dX7_sold_45 (rfl : 45 + 1 = 46) ?_
        refine hp_iadd E dX7_sold_46 (rfl : 46 + 1 = 47) ?_
        refine hp_iload_n E hl 3 rfl 3 rfl dX7_sold_47 (rfl : 47 + 1 = 48) ?_
        obtain ⟨hc7, h⟩ := h
        obtain ⟨hi8, h⟩ := h
        refine hx_iast E hR hc7 hi8 dX7_sold_48 (rfl : 48 + 1 = 49) (fun S9 H locs e11 hm10 hR => ?_)
        have h := h S9 e11
        have hm := hp_mono.tr hm hm10
        refine hp_iconst E (1 : Int32) (by decide) dX7_sold_49 (rfl : 49 + 1 = 50) ?_
        exact hp_zret E hR (Or.inr rfl) ⟨hm, h⟩ (Nat.le_of_ble_eq_true rfl) (Nat.le_of_ble_eq_true rfl) dX7_sold_50
def wb_X7_years_178 (o : Nat) (a1 : Int32) (a2 : Int32) (a3 : Int32) (v4 : Int32) (S : hp_St) (K13 : Int32 → hp_St → Prop) (Q : hp_St → Prop) : Prop := K13 (v4 + (1 : Int32)) S
def wb_X7_years_172 (o : Nat) (a1 : Int32) (a2 : Int32) (a3 : Int32) (v4 : Int32) (v5 : Int32) (S : hp_St) (K13 : Int32 → hp_St → Prop) (K42 : Int32 → hp_St → Prop) (Q : hp_St → Prop) : Prop := K42 (v5 + (1 : Int32)) S
def wb_X7_years_168 (o : Nat) (a1 : Int32) (a2 : Int32) (a3 : Int32) (v4 : Int32) (v5 : Int32) (t0 : Nat) (t1 : Int32) (t2 : Int32) (S : hp_St) (K13 : Int32 → hp_St → Prop) (K42 : Int32 → hp_St → Prop) (Q : hp_St → Prop) : Prop := (st_C S t0 = 7) ∧ (∀ S16802, S16802 = st_pI S t0 50 (t1 + t2) → wb_X7_years_172 o a1 a2 a3 v4 v5 S16802 K13 K42 Q)
def wb_X7_years_163 (o : Nat) (a1 : Int32) (a2 : Int32) (a3 : Int32) (v4 : Int32) (v5 : Int32) (t0 : Nat) (t1 : Int32) (S : hp_St) (K13 : Int32 → hp_St → Prop) (K42 : Int32 → hp_St → Prop) (Q : hp_St → Prop) : Prop := wb_X7_years_168 o a1 a2 a3 v4 v5 t0 t1 (1 : Int32) S K13 K42 Q
def wb_X7_years_122 (o : Nat) (a1 : Int32) (a2 : Int32) (a3 : Int32) (v4 : Int32) (v5 : Int32) (v6 : Int32) (S : hp_St) (K13 : Int32 → hp_St → Prop) (K42 : Int32 → hp_St → Prop) (Q : hp_St → Prop) : Prop := (∀ S12201, S12201 = st_pI S o 49 ((st_I S o 49) + (1 : Int32)) → (st_C S12201 (st_R S12201 o 45) = 50) ∧ (vp_in v4 (st_L S12201 (st_R S12201 o 45))) ∧ ((((st_I S12201 (st_R S12201 o 45) v4.toNatClampNeg) = v6) → wb_X7_years_163 o a1 a2 a3 v4 v5 o (st_I S12201 o 50) S12201 K13 K42 Q) ∧ ((¬ ((st_I S12201 (st_R S12201 o 45) v4.toNatClampNeg) = v6)) → (vp_in v4 (st_L S12201 (st_R S12201 o 45))) ∧ ((((st_I S12201 (st_R S12201 o 45) v4.toNatClampNeg) = (v6 + (1 : Int32))) → wb_X7_years_163 o a1 a2 a3 v4 v5 o (st_I S12201 o 50) S12201 K13 K42 Q) ∧ ((¬ ((st_I S12201 (st_R S12201 o 45) v4.toNatClampNeg) = (v6 + (1 : Int32)))) → wb_X7_years_168 o a1 a2 a3 v4 v5 o (st_I S12201 o 50) (0 : Int32) S12201 K13 K42 Q)))))
def wb_X7_years_71 (o : Nat) (a1 : Int32) (a2 : Int32) (a3 : Int32) (v4 : Int32) (v5 : Int32) (S : hp_St) (K13 : Int32 → hp_St → Prop) (K42 : Int32 → hp_St → Prop) (Q : hp_St → Prop) : Prop := (st_C S (st_R S o 5) = 50) ∧ (vp_in v4 (st_L S (st_R S o 5))) ∧ (((((st_I S (st_R S o 5) v4.toNatClampNeg) + ((2 : Int32) * v5)) < 0) → wb_X7_years_172 o a1 a2 a3 v4 v5 S K13 K42 Q) ∧ ((¬ (((st_I S (st_R S o 5) v4.toNatClampNeg) + ((2 : Int32) * v5)) < 0)) → (((((st_I S (st_R S o 5) v4.toNatClampNeg) + ((2 : Int32) * v5)) ≤ a3) → (st_C S (st_R S o 45) = 50) ∧ (vp_in v4 (st_L S (st_R S o 45))) ∧ ((((st_I S (st_R S o 45) v4.toNatClampNeg) = (-1 : Int32)) → wb_X7_years_122 o a1 a2 a3 v4 v5 ((st_I S (st_R S o 5) v4.toNatClampNeg) + ((2 : Int32) * v5)) S K13 K42 Q) ∧ ((¬ ((st_I S (st_R S o 45) v4.toNatClampNeg) = (-1 : Int32))) → (vp_in v4 (st_L S (st_R S o 45))) ∧ (((((st_I S (st_R S o 5) v4.toNatClampNeg) + ((2 : Int32) * v5)) ≤ (st_I S (st_R S o 45) v4.toNatClampNeg)) → wb_X7_years_122 o a1 a2 a3 v4 v5 ((st_I S (st_R S o 5) v4.toNatClampNeg) + ((2 : Int32) * v5)) S K13 K42 Q) ∧ ((¬ (((st_I S (st_R S o 5) v4.toNatClampNeg) + ((2 : Int32) * v5)) ≤ (st_I S (st_R S o 45) v4.toNatClampNeg))) → wb_X7_years_172 o a1 a2 a3 v4 v5 S K13 K42 Q))))) ∧ ((¬ (((st_I S (st_R S o 5) v4.toNatClampNeg) + ((2 : Int32) * v5)) ≤ a3)) → wb_X7_years_172 o a1 a2 a3 v4 v5 S K13 K42 Q))))
def wb_X7_years_42 (o : Nat) (a1 : Int32) (a2 : Int32) (a3 : Int32) (v4 : Int32) (v5 : Int32) (S : hp_St) (K13 : Int32 → hp_St → Prop) (K42 : Int32 → hp_St → Prop) (Q : hp_St → Prop) : Prop := (((a2 = (9 : Int32)) → (((v5 < (130 : Int32)) → wb_X7_years_71 o a1 a2 a3 v4 v5 S K13 K42 Q) ∧ ((¬ (v5 < (130 : Int32))) → wb_X7_years_178 o a1 a2 a3 v4 S K13 Q))) ∧ ((¬ (a2 = (9 : Int32))) → (((v5 < (((10 : Int32) * a2) + (10 : Int32))) → wb_X7_years_71 o a1 a2 a3 v4 v5 S K13 K42 Q) ∧ ((¬ (v5 < (((10 : Int32) * a2) + (10 : Int32)))) → wb_X7_years_178 o a1 a2 a3 v4 S K13 Q))))
def wl_X7_years_42 (o : Nat) (a1 : Int32) (a2 : Int32) (a3 : Int32) (v4 : Int32) (v5 : Int32) (S : hp_St) (K13 : Int32 → hp_St → Prop) (Q : hp_St → Prop) : Prop := ∃ (I : Int32 → hp_St → Prop) (μ : Int32 → hp_St → Nat), I v5 S ∧ ∀ (v5 : Int32) (S1 : hp_St), hp_mono S S1 → I v5 S1 → wb_X7_years_42 o a1 a2 a3 v4 v5 S1 K13 (fun v5' S2 => I v5' S2 ∧ μ v5' S2 < μ v5 S1) Q
def wb_X7_years_13 (o : Nat) (a1 : Int32) (a2 : Int32) (a3 : Int32) (v4 : Int32) (S : hp_St) (K13 : Int32 → hp_St → Prop) (Q : hp_St → Prop) : Prop := (((v4 < (st_I S o 4)) → (st_C S (st_R S o 6) = 50) ∧ (vp_in v4 (st_L S (st_R S o 6))) ∧ ((((st_I S (st_R S o 6) v4.toNatClampNeg) = a1) → wl_X7_years_42 o a1 a2 a3 v4 ((10 : Int32) * a2) S K13 Q) ∧ ((¬ ((st_I S (st_R S o 6) v4.toNatClampNeg) = a1)) → wb_X7_years_178 o a1 a2 a3 v4 S K13 Q))) ∧ ((¬ (v4 < (st_I S o 4))) → Q S))
def wl_X7_years_13 (o : Nat) (a1 : Int32) (a2 : Int32) (a3 : Int32) (v4 : Int32) (S : hp_St) (Q : hp_St → Prop) : Prop := ∃ (I : Int32 → hp_St → Prop) (μ : Int32 → hp_St → Nat), I v4 S ∧ ∀ (v4 : Int32) (S1 : hp_St), hp_mono S S1 → I v4 S1 → wb_X7_years_13 o a1 a2 a3 v4 S1 (fun v4' S2 => I v4' S2 ∧ μ v4' S2 < μ v4 S1) Q
def wp_X7_years (o : Nat) (a1 : Int32) (a2 : Int32) (a3 : Int32) (S : hp_St) (Q : hp_St → Prop) : Prop := (∀ S1, S1 = st_pI S o 49 (0 : Int32) → (∀ S4, S4 = st_pI S1 o 50 (0 : Int32) → wl_X7_years_13 o a1 a2 a3 (0 : Int32) S4 Q))
theorem nf_X7_years : hp_nf yX7_years 3 = true := by decide +kernel
set_option maxHeartbeats 4000000 in
theorem m_X7_years {l : Launch} {B : Nat} {D : va_G} {s0 : State} {b0 : Nat} (G : hp_G l B D s0 b0) (o : Nat) (a1 : Int32) (a2 : Int32) (a3 : Int32) (Si : hp_St) (Q : hp_St → Prop) (hc0 : st_C Si o = 7) (h : wp_X7_years o a1 a2 a3 Si Q) : hp_M l B D s0 yX7_years cX7_years 7 none 2 128 0 0 [hp_v B o, .int a1, .int a2, .int a3] Si (hp_Qv B D s0 (fun S' => hp_mono Si S' ∧ Q S')) := by
  refine hp_start G (by decide +kernel) rfl rfl (lv := [(0, hp_v B o), (1, .int a1), (2, .int a2), (3, .int a3)]) (by simp [lg_sl, hp_vc, hp_ci, hp_cj]) (by simp [lv_args, hp_vc, hp_ci, hp_cj]) ?_
  intro p e s m args below meth c E ls hl hR
  have hm : hp_mono Si Si := hp_mono.rf
  generalize hH : s.heap = H at hR ⊢
  generalize hLo : ([] : List Loc) = locs at hR ⊢
  have b13 : ∀ (v4 : Int32) (S : hp_St) (H : Heap) (locs : List Loc) (ls : Array Slot), wl_X7_years_13 o a1 a2 a3 v4 S Q → lv_has ls 7 [(0, hp_v B o), (1, .int a1), (2, .int a2), (3, .int a3), (4, .int v4)] → hp_S B D s0 S H locs → hp_mono Si S → W p l e ({ frames := 2, cells := 0, slots := 0, locals := 128 } : Room) s m args below meth c H locs 0 0 (MQ below (hp_Qv B D s0 (fun S' => hp_mono Si S' ∧ Q S')) args s 0 0 (fun q => B < q)) (F0 m 13 ls []) := by
    intro v4 S H locs ls h hl hR hm
    obtain ⟨I13, μ13, hI, hst⟩ := h
    obtain ⟨Sa13, eSa13⟩ : ∃ x, x = S := ⟨_, rfl⟩
    subst eSa13
    have key13 : ∀ (N : Nat) (v4 : Int32) (Su13 : hp_St) (H : Heap) (locs : List Loc) (ls : Array Slot), μ13 v4 Su13 < N → I13 v4 Su13 → lv_has ls 7 [(0, hp_v B o), (1, .int a1), (2, .int a2), (3, .int a3), (4, .int v4)] → hp_S B D s0 Su13 H locs → hp_mono Sa13 Su13 → W p l e ({ frames := 2, cells := 0, slots := 0, locals := 128 } : Room) s m args below meth c H locs 0 0 (MQ below (hp_Qv B D s0 (fun S' => hp_mono Si S' ∧ Q S')) args s 0 0 (fun q => B < q)) (F0 m 13 ls []) := by
      intro N
      induction N with
      | zero =>
        intro v4 Su13 H locs ls hN
        exact absurd hN (Nat.not_lt_zero _)
      | succ N ih13 =>
        intro v4 Su13 H locs ls hN hI hl hR ms13
        have h := hst v4 Su13 ms13 hI
        have hm := hp_mono.tr hm ms13
        obtain ⟨K13, hKe13⟩ : ∃ K : Int32 → hp_St → Prop, K = (fun v4' Sk => I13 v4' Sk ∧ μ13 v4' Sk < μ13 v4 Su13) := ⟨_, rfl⟩
        rw [← hKe13] at h
        have hK13 : ∀ (v4' : Int32) (Sk : hp_St) (H : Heap) (locs : List Loc) (ls : Array Slot), K13 v4' Sk → lv_has ls 7 [(0, hp_v B o), (1, .int a1), (2, .int a2), (3, .int a3), (4, .int (v4'))] → hp_S B D s0 Sk H locs → hp_mono Sa13 Sk → W p l e ({ frames := 2, cells := 0, slots := 0, locals := 128 } : Room) s m args below meth c H locs 0 0 (MQ below (hp_Qv B D s0 (fun S' => hp_mono Si S' ∧ Q S')) args s 0 0 (fun q => B < q)) (F0 m 13 ls []) := by
          intro v4' Sk H locs ls hI hl hR ms
          rw [hKe13] at hI
          exact ih13 v4' Sk H locs ls (Nat.lt_of_lt_of_le hI.2 (Nat.le_of_lt_succ hN)) hI.1 hl hR ms
        have b178 : ∀ (v4 : Int32) (S : hp_St) (H : Heap) (locs : List Loc) (ls : Array Slot), wb_X7_years_178 o a1 a2 a3 v4 S K13 Q → lv_has ls 7 [(0, hp_v B o), (1, .int a1), (2, .int a2), (3, .int a3), (4, .int v4)] → hp_S B D s0 S H locs → hp_mono Si S → hp_mono Sa13 S → W p l e ({ frames := 2, cells := 0, slots := 0, locals := 128 } : Room) s m args below meth c H locs 0 0 (MQ below (hp_Qv B D s0 (fun S' => hp_mono Si S' ∧ Q S')) args s 0 0 (fun q => B < q)) (F0 m 178 ls []) := by
          intro v4 S H locs ls h hl hR hm ms13
          unfold wb_X7_years_178 at h
          refine hp_iinc E hl (v4 + (1 : Int32)) 4 (lv' := [(0, hp_v B o), (1, .int a1), (2, .int a2), (3, .int a3)]) dX7_years_178 (rfl : 178 + 3 = 181) rfl (by first | rfl | (congr 1)) (by decide) rfl (fun ls hl => ?_)
          refine hp_goto E (tgt := 13) dX7_years_181 (by decide) ?_
          exact hK13 _ _ _ _ _ h (lv_sub hl [1, 2, 3, 4, 0] rfl) hR ms13
        have b42 : ∀ (v4 : Int32) (v5 : Int32) (S : hp_St) (H : Heap) (locs : List Loc) (ls : Array Slot), wl_X7_years_42 o a1 a2 a3 v4 v5 S K13 Q → lv_has ls 7 [(0, hp_v B o), (1, .int a1), (2, .int a2), (3, .int a3), (4, .int v4), (5, .int v5)] → hp_S B D s0 S H locs → hp_mono Si S → hp_mono Sa13 S → W p l e ({ frames := 2, cells := 0, slots := 0, locals := 128 } : Room) s m args below meth c H locs 0 0 (MQ below (hp_Qv B D s0 (fun S' => hp_mono Si S' ∧ Q S')) args s 0 0 (fun q => B < q)) (F0 m 42 ls []) := by
          intro v4 v5 S H locs ls h hl hR hm ms13
          obtain ⟨I42, μ42, hI, hst⟩ := h
          obtain ⟨Sa42, eSa42⟩ : ∃ x, x = S := ⟨_, rfl⟩
          subst eSa42
          have key42 : ∀ (N : Nat) (v5 : Int32) (Su42 : hp_St) (H : Heap) (locs : List Loc) (ls : Array Slot), μ42 v5 Su42 < N → I42 v5 Su42 → lv_has ls 7 [(0, hp_v B o), (1, .int a1), (2, .int a2), (3, .int a3), (4, .int v4), (5, .int v5)] → hp_S B D s0 Su42 H locs → hp_mono Sa42 Su42 → W p l e ({ frames := 2, cells := 0, slots := 0, locals := 128 } : Room) s m args below meth c H locs 0 0 (MQ below (hp_Qv B D s0 (fun S' => hp_mono Si S' ∧ Q S')) args s 0 0 (fun q => B < q)) (F0 m 42 ls []) := by
            intro N
            induction N with
            | zero =>
              intro v5 Su42 H locs ls hN
              exact absurd hN (Nat.not_lt_zero _)
            | succ N ih42 =>
              intro v5 Su42 H locs ls hN hI hl hR ms42
              have h := hst v5 Su42 ms42 hI
              have hm := hp_mono.tr hm ms42
              have ms13 := hp_mono.tr ms13 ms42
              obtain ⟨K42, hKe42⟩ : ∃ K : Int32 → hp_St → Prop, K = (fun v5' Sk => I42 v5' Sk ∧ μ42 v5' Sk < μ42 v5 Su42) := ⟨_, rfl⟩
              rw [← hKe42] at h
              have hK42 : ∀ (v5' : Int32) (Sk : hp_St) (H : Heap) (locs : List Loc) (ls : Array Slot), K42 v5' Sk → lv_has ls 7 [(0, hp_v B o), (1, .int a1), (2, .int a2), (3, .int a3), (4, .int v4), (5, .int (v5'))] → hp_S B D s0 Sk H locs → hp_mono Sa42 Sk → W p l e ({ frames := 2, cells := 0, slots := 0, locals := 128 } : Room) s m args below meth c H locs 0 0 (MQ below (hp_Qv B D s0 (fun S' => hp_mono Si S' ∧ Q S')) args s 0 0 (fun q => B < q)) (F0 m 42 ls []) := by
                intro v5' Sk H locs ls hI hl hR ms
                rw [hKe42] at hI
                exact ih42 v5' Sk H locs ls (Nat.lt_of_lt_of_le hI.2 (Nat.le_of_lt_succ hN)) hI.1 hl hR ms
              have b172 : ∀ (v5 : Int32) (S : hp_St) (H : Heap) (locs : List Loc) (ls : Array Slot), wb_X7_years_172 o a1 a2 a3 v4 v5 S K13 K42 Q → lv_has ls 7 [(0, hp_v B o), (1, .int a1), (2, .int a2), (3, .int a3), (4, .int v4), (5, .int v5)] → hp_S B D s0 S H locs → hp_mono Si S → hp_mono Sa13 S → hp_mono Sa42 S → W p l e ({ frames := 2, cells := 0, slots := 0, locals := 128 } : Room) s m args below meth c H locs 0 0 (MQ below (hp_Qv B D s0 (fun S' => hp_mono Si S' ∧ Q S')) args s 0 0 (fun q => B < q)) (F0 m 172 ls []) := by
                intro v5 S H locs ls h hl hR hm ms13 ms42
                unfold wb_X7_years_172 at h
                refine hp_iinc E hl (v5 + (1 : Int32)) 5 (lv' := [(0, hp_v B o), (1, .int a1), (2, .int a2), (3, .int a3), (4, .int v4)]) dX7_years_172 (rfl : 172 + 3 = 175) rfl (by first | rfl | (congr 1)) (by decide) rfl (fun ls hl => ?_)
                refine hp_goto E (tgt := 42) dX7_years_175 (by decide) ?_
                exact hK42 _ _ _ _ _ h (lv_sub hl [1, 2, 3, 4, 5, 0] rfl) hR ms42
              have b168 : ∀ (v5 : Int32) (t0 : Nat) (t1 : Int32) (t2 : Int32) (S : hp_St) (H : Heap) (locs : List Loc) (ls : Array Slot), wb_X7_years_168 o a1 a2 a3 v4 v5 t0 t1 t2 S K13 K42 Q → lv_has ls 7 [(0, hp_v B o), (1, .int a1), (2, .int a2), (3, .int a3), (4, .int v4), (5, .int v5)] → hp_S B D s0 S H locs → hp_mono Si S → hp_mono Sa13 S → hp_mono Sa42 S → W p l e ({ frames := 2, cells := 0, slots := 0, locals := 128 } : Room) s m args below meth c H locs 0 0 (MQ below (hp_Qv B D s0 (fun S' => hp_mono Si S' ∧ Q S')) args s 0 0 (fun q => B < q)) (F0 m 168 ls [.int t2, .int t1, hp_v B t0]) := by
                intro v5 t0 t1 t2 S H locs ls h hl hR hm ms13 ms42
                unfold wb_X7_years_168 at h
                refine hp_iadd E dX7_years_168 (rfl : 168 + 1 = 169) ?_
                obtain ⟨hc16801, h⟩ := h
                refine hx_putI E hR in_X7 tyX7 tyX7_ok nmX7 hc16801 rfl 50 (Nat.le_of_ble_eq_true rfl) rfl q1311 (fun _ h => h) (Or.inl rfl) (Or.inl rfl) dX7_years_169 (rfl : 169 + 3 = 172) (fun S16802 H locs e16804 hm16803 hR => ?_)
                have h := h S16802 e16804
                have hm := hp_mono.tr hm hm16803
                have ms13 := hp_mono.tr ms13 hm16803
                have ms42 := hp_mono.tr ms42 hm16803
                exact b172 _ _ _ _ _ h hl hR hm ms13 ms42
              have b163 : ∀ (v5 : Int32) (t0 : Nat) (t1 : Int32) (S : hp_St) (H : Heap) (locs : List Loc) (ls : Array Slot), wb_X7_years_163 o a1 a2 a3 v4 v5 t0 t1 S K13 K42 Q → lv_has ls 7 [(0, hp_v B o), (1, .int a1), (2, .int a2), (3, .int a3), (4, .int v4), (5, .int v5)] → hp_S B D s0 S H locs → hp_mono Si S → hp_mono Sa13 S → hp_mono Sa42 S → W p l e ({ frames := 2, cells := 0, slots := 0, locals := 128 } : Room) s m args below meth c H locs 0 0 (MQ below (hp_Qv B D s0 (fun S' => hp_mono Si S' ∧ Q S')) args s 0 0 (fun q => B < q)) (F0 m 163 ls [.int t1, hp_v B t0]) := by
                intro v5 t0 t1 S H locs ls h hl hR hm ms13 ms42
                unfold wb_X7_years_163 at h
                refine hp_iconst E (1 : Int32) (by decide) dX7_years_163 (rfl : 163 + 1 = 164) ?_
                refine hp_goto E (tgt := 168) dX7_years_164 (by decide) ?_
                exact b168 _ _ _ _ _ _ _ _ h hl hR hm ms13 ms42
              have b122 : ∀ (v5 : Int32) (v6 : Int32) (S : hp_St) (H : Heap) (locs : List Loc) (ls : Array Slot), wb_X7_years_122 o a1 a2 a3 v4 v5 v6 S K13 K42 Q → lv_has ls 7 [(0, hp_v B o), (1, .int a1), (2, .int a2), (3, .int a3), (4, .int v4), (5, .int v5), (6, .int v6)] → hp_S B D s0 S H locs → hp_mono Si S → hp_mono Sa13 S → hp_mono Sa42 S → W p l e ({ frames := 2, cells := 0, slots := 0, locals := 128 } : Room) s m args below meth c H locs 0 0 (MQ below (hp_Qv B D s0 (fun S' => hp_mono Si S' ∧ Q S')) args s 0 0 (fun q => B < q)) (F0 m 122 ls []) := by
                intro v5 v6 S H locs ls h hl hR hm ms13 ms42
                unfold wb_X7_years_122 at h
                refine hp_aload_n E hl 0 rfl 0 rfl dX7_years_122 (rfl : 122 + 1 = 123) ?_
                refine hp_dup E hp_vc dX7_years_123 (rfl : 123 + 1 = 124) ?_
                refine hp_getI E hR in_X7 (hp_mono.c hm hc0) rfl 49 (Nat.le_of_ble_eq_true rfl) rfl q1310 (fun _ h => h) dX7_years_124 (rfl : 124 + 3 = 127) ?_
                refine hp_iconst E (1 : Int32) (by decide) dX7_years_127 (rfl : 127 + 1 = 128) ?_
                refine hp_iadd E dX7_years_128 (rfl : 128 + 1 = 129) ?_
                refine hx_putI E hR in_X7 tyX7 tyX7_ok nmX7 (hp_mono.c hm hc0) rfl 49 (Nat.le_of_ble_eq_true rfl) rfl q1310 (fun _ h => h) (Or.inl rfl) (Or.inl rfl) dX7_years_129 (rfl : 129 + 3 = 132) (fun S12201 H locs e12203 hm12202 hR => ?_)
                have h := h S12201 e12203
                have hm := hp_mono.tr hm hm12202
                have ms13 := hp_mono.tr ms13 hm12202
                have ms42 := hp_mono.tr ms42 hm12202
                refine hp_aload_n E hl 0 rfl 0 rfl dX7_years_132 (rfl : 132 + 1 = 133) ?_
                refine hp_dup E hp_vc dX7_years_133 (rfl : 133 + 1 = 134) ?_
                refine hp_getI E hR in_X7 (hp_mono.c hm hc0) rfl 50 (Nat.le_of_ble_eq_true rfl) rfl q1311 (fun _ h => h) dX7_years_134 (rfl : 134 + 3 = 137) ?_
                refine hp_aload_n E hl 0 rfl 0 rfl dX7_years_137 (rfl : 137 + 1 = 138) ?_
                refine hp_getR E hR in_X7 (hp_mono.c hm hc0) rfl 45 (Nat.le_of_ble_eq_true rfl) rfl q1306 (fun _ h => h) dX7_years_138 (rfl : 138 + 3 = 141) ?_
                refine hp_iload E hl 4 rfl dX7_years_141 (rfl : 141 + 2 = 143) ?_
                obtain ⟨hc12204, h⟩ := h
                obtain ⟨hi12205, h⟩ := h
                refine hp_iald E hR hc12204 hi12205 dX7_years_143 (rfl : 143 + 1 = 144) ?_
                refine hp_iload E hl 6 rfl dX7_years_144 (rfl : 144 + 2 = 146) ?_
                refine hp_icmp_eq E dX7_years_146 (rfl : 146 + 3 = 149) (tgt := 163) (by decide) (fun hb => ?_) (fun hb => ?_)
                · have h := h.1 hb
                  exact b163 _ _ _ _ _ _ _ h (lv_sub hl [0, 1, 2, 3, 4, 5] rfl) hR hm ms13 ms42
                · have h := h.2 hb
                  refine hp_aload_n E hl 0 rfl 0 rfl dX7_years_149 (rfl : 149 + 1 = 150) ?_
                  refine hp_getR E hR in_X7 (hp_mono.c hm hc0) rfl 45 (Nat.le_of_ble_eq_true rfl) rfl q1306 (fun _ h => h) dX7_years_150 (rfl : 150 + 3 = 153) ?_
                  refine hp_iload E hl 4 rfl dX7_years_153 (rfl : 153 + 2 = 155) ?_
                  obtain ⟨hi12206, h⟩ := h
                  refine hp_iald E hR hc12204 hi12206 dX7_years_155 (rfl : 155 + 1 = 156) ?_
                  refine hp_iload E hl 6 rfl dX7_years_156 (rfl : 156 + 2 = 158) ?_
                  refine hp_iconst E (1 : Int32) (by decide) dX7_years_158 (rfl : 158 + 1 = 159) ?_
                  refine hp_iadd E dX7_years_159 (rfl : 159 + 1 = 160) ?_
                  refine hp_icmp_ne E dX7_years_160 (rfl : 160 + 3 = 163) (tgt := 167) (by decide) (fun hb => ?_) (fun hb => ?_)
                  · have h := h.1 hb
                    exact b163 _ _ _ _ _ _ _ h (lv_sub hl [0, 1, 2, 3, 4, 5] rfl) hR hm ms13 ms42
                  · have h := h.2 hb
                    refine hp_iconst E (0 : Int32) (by decide) dX7_years_167 (rfl : 167 + 1 = 168) ?_
                    exact b168 _ _ _ _ _ _ _ _ h (lv_sub hl [0, 1, 2, 3, 4, 5] rfl) hR hm ms13 ms42
              have b71 : ∀ (v5 : Int32) (S : hp_St) (H : Heap) (locs : List Loc) (ls : Array Slot), wb_X7_years_71 o a1 a2 a3 v4 v5 S K13 K42 Q → lv_has ls 7 [(0, hp_v B o), (1, .int a1), (2, .int a2), (3, .int a3), (4, .int v4), (5, .int v5)] → hp_S B D s0 S H locs → hp_mono Si S → hp_mono Sa13 S → hp_mono Sa42 S → W p l e ({ frames := 2, cells := 0, slots := 0, locals := 128 } : Room) s m args below meth c H locs 0 0 (MQ below (hp_Qv B D s0 (fun S' => hp_mono Si S' ∧ Q S')) args s 0 0 (fun q => B < q)) (F0 m 71 ls []) := by
                intro v5 S H locs ls h hl hR hm ms13 ms42
                unfold wb_X7_years_71 at h
                refine hp_aload_n E hl 0 rfl 0 rfl dX7_years_71 (rfl : 71 + 1 = 72) ?_
                refine hp_getR E hR in_X7 (hp_mono.c hm hc0) rfl 5 (Nat.le_of_ble_eq_true rfl) rfl q1266 (fun _ h => h) dX7_years_72 (rfl : 72 + 3 = 75) ?_
                refine hp_iload E hl 4 rfl dX7_years_75 (rfl : 75 + 2 = 77) ?_
                obtain ⟨hc7101, h⟩ := h
                obtain ⟨hi7102, h⟩ := h
                refine hp_iald E hR hc7101 hi7102 dX7_years_77 (rfl : 77 + 1 = 78) ?_
                refine hp_iconst E (2 : Int32) (by decide) dX7_years_78 (rfl : 78 + 1 = 79) ?_
                refine hp_iload E hl 5 rfl dX7_years_79 (rfl : 79 + 2 = 81) ?_
                refine hp_imul E dX7_years_81 (rfl : 81 + 1 = 82) ?_
                refine hp_iadd E dX7_years_82 (rfl : 82 + 1 = 83) ?_
                refine hp_istore E hl 6 (lv' := [(0, hp_v B o), (1, .int a1), (2, .int a2), (3, .int a3), (4, .int v4), (5, .int v5)]) dX7_years_83 (rfl : 83 + 2 = 85) (by decide) rfl (fun ls hl => ?_)
                refine hp_iload E hl 0 rfl dX7_years_85 (rfl : 85 + 2 = 87) ?_
                refine hp_if_lt E dX7_years_87 (rfl : 87 + 3 = 90) (tgt := 172) (by decide) (fun hb => ?_) (fun hb => ?_)
                · have h := h.1 hb
                  exact b172 _ _ _ _ _ h (lv_sub hl [1, 2, 3, 4, 5, 6] rfl) hR hm ms13 ms42
                · have h := h.2 hb
                  refine hp_iload E hl 0 rfl dX7_years_90 (rfl : 90 + 2 = 92) ?_
                  refine hp_iload_n E hl 3 rfl 4 rfl dX7_years_92 (rfl : 92 + 1 = 93) ?_
                  refine hp_icmp_gt E dX7_years_93 (rfl : 93 + 3 = 96) (tgt := 172) (by decide) (fun hb => ?_) (fun hb => ?_)
                  · have h := h.1 hb
                    refine hp_aload_n E hl 0 rfl 1 rfl dX7_years_96 (rfl : 96 + 1 = 97) ?_
                    refine hp_getR E hR in_X7 (hp_mono.c hm hc0) rfl 45 (Nat.le_of_ble_eq_true rfl) rfl q1306 (fun _ h => h) dX7_years_97 (rfl : 97 + 3 = 100) ?_
                    refine hp_iload E hl 5 rfl dX7_years_100 (rfl : 100 + 2 = 102) ?_
                    obtain ⟨hc7103, h⟩ := h
                    obtain ⟨hi7104, h⟩ := h
                    refine hp_iald E hR hc7103 hi7104 dX7_years_102 (rfl : 102 + 1 = 103) ?_
                    refine hp_iconst E (-1 : Int32) (by decide) dX7_years_103 (rfl : 103 + 1 = 104) ?_
                    refine hp_icmp_eq E dX7_years_104 (rfl : 104 + 3 = 107) (tgt := 122) (by decide) (fun hb => ?_) (fun hb => ?_)
                    · have h := h.1 hb
                      exact b122 _ _ _ _ _ _ h (lv_sub hl [1, 2, 3, 4, 5, 6, 0] rfl) hR hm ms13 ms42
                    · have h := h.2 hb
                      refine hp_iload E hl 0 rfl dX7_years_107 (rfl : 107 + 2 = 109) ?_
                      refine hp_aload_n E hl 0 rfl 1 rfl dX7_years_109 (rfl : 109 + 1 = 110) ?_
                      refine hp_getR E hR in_X7 (hp_mono.c hm hc0) rfl 45 (Nat.le_of_ble_eq_true rfl) rfl q1306 (fun _ h => h) dX7_years_110 (rfl : 110 + 3 = 113) ?_
                      refine hp_iload E hl 5 rfl dX7_years_113 (rfl : 113 + 2 = 115) ?_
                      obtain ⟨hi7105, h⟩ := h
                      refine hp_iald E hR hc7103 hi7105 dX7_years_115 (rfl : 115 + 1 = 116) ?_
                      refine hp_icmp_le E dX7_years_116 (rfl : 116 + 3 = 119) (tgt := 122) (by decide) (fun hb => ?_) (fun hb => ?_)
                      · have h := h.1 hb
                        exact b122 _ _ _ _ _ _ h (lv_sub hl [1, 2, 3, 4, 5, 6, 0] rfl) hR hm ms13 ms42
                      · have h := h.2 hb
                        refine hp_goto E (tgt := 172) dX7_years_119 (by decide) ?_
                        exact b172 _ _ _ _ _ h (lv_sub hl [1, 2, 3, 4, 5, 6] rfl) hR hm ms13 ms42
                  · have h := h.2 hb
                    exact b172 _ _ _ _ _ h (lv_sub hl [1, 2, 3, 4, 5, 6] rfl) hR hm ms13 ms42
              unfold wb_X7_years_42 at h
              refine hp_iload_n E hl 2 rfl 2 rfl dX7_years_42 (rfl : 42 + 1 = 43) ?_
              refine hp_bipush E (9 : Int32) (by decide) dX7_years_43 (rfl : 43 + 2 = 45) ?_
              refine hp_icmp_ne E dX7_years_45 (rfl : 45 + 3 = 48) (tgt := 59) (by decide) (fun hb => ?_) (fun hb => ?_)
              · have h := h.1 hb
                refine hp_iload E hl 5 rfl dX7_years_48 (rfl : 48 + 2 = 50) ?_
                refine hp_sipush E (130 : Int32) (by decide) dX7_years_50 (rfl : 50 + 3 = 53) ?_
                refine hp_icmp_ge E dX7_years_53 (rfl : 53 + 3 = 56) (tgt := 178) (by decide) (fun hb => ?_) (fun hb => ?_)
                · have h := h.1 hb
                  refine hp_goto E (tgt := 71) dX7_years_56 (by decide) ?_
                  exact b71 _ _ _ _ _ h hl hR hm ms13 ms42
                · have h := h.2 hb
                  exact b178 _ _ _ _ _ h (lv_sub hl [0, 1, 2, 3, 4] rfl) hR hm ms13
              · have h := h.2 hb
                refine hp_iload E hl 5 rfl dX7_years_59 (rfl : 59 + 2 = 61) ?_
                refine hp_bipush E (10 : Int32) (by decide) dX7_years_61 (rfl : 61 + 2 = 63) ?_
                refine hp_iload_n E hl 2 rfl 2 rfl dX7_years_63 (rfl : 63 + 1 = 64) ?_
                refine hp_imul E dX7_years_64 (rfl : 64 + 1 = 65) ?_
                refine hp_bipush E (10 : Int32) (by decide) dX7_years_65 (rfl : 65 + 2 = 67) ?_
                refine hp_iadd E dX7_years_67 (rfl : 67 + 1 = 68) ?_
                refine hp_icmp_ge E dX7_years_68 (rfl : 68 + 3 = 71) (tgt := 178) (by decide) (fun hb => ?_) (fun hb => ?_)
                · have h := h.1 hb
                  exact b71 _ _ _ _ _ h hl hR hm ms13 ms42
                · have h := h.2 hb
                  exact b178 _ _ _ _ _ h (lv_sub hl [0, 1, 2, 3, 4] rfl) hR hm ms13
          exact key42 (μ42 v5 Sa42 + 1) v5 _ H locs ls (Nat.lt_succ_self _) hI hl hR hp_mono.rf
        unfold wb_X7_years_13 at h
        refine hp_iload E hl 4 rfl dX7_years_13 (rfl : 13 + 2 = 15) ?_
        refine hp_aload_n E hl 0 rfl 0 rfl dX7_years_15 (rfl : 15 + 1 = 16) ?_
        refine hp_getI E hR in_X7 (hp_mono.c hm hc0) rfl 4 (Nat.le_of_ble_eq_true rfl) rfl q1265 (fun _ h => h) dX7_years_16 (rfl : 16 + 3 = 19) ?_
        refine hp_icmp_ge E dX7_years_19 (rfl : 19 + 3 = 22) (tgt := 184) (by decide) (fun hb => ?_) (fun hb => ?_)
        · have h := h.1 hb
          refine hp_aload_n E hl 0 rfl 0 rfl dX7_years_22 (rfl : 22 + 1 = 23) ?_
          refine hp_getR E hR in_X7 (hp_mono.c hm hc0) rfl 6 (Nat.le_of_ble_eq_true rfl) rfl q1267 (fun _ h => h) dX7_years_23 (rfl : 23 + 3 = 26) ?_
          refine hp_iload E hl 4 rfl dX7_years_26 (rfl : 26 + 2 = 28) ?_
          obtain ⟨hc1301, h⟩ := h
          obtain ⟨hi1302, h⟩ := h
          refine hp_iald E hR hc1301 hi1302 dX7_years_28 (rfl : 28 + 1 = 29) ?_
          refine hp_iload_n E hl 1 rfl 1 rfl dX7_years_29 (rfl : 29 + 1 = 30) ?_
          refine hp_icmp_eq E dX7_years_30 (rfl : 30 + 3 = 33) (tgt := 36) (by decide) (fun hb => ?_) (fun hb => ?_)
          · have h := h.1 hb
            refine hp_bipush E (10 : Int32) (by decide) dX7_years_36 (rfl : 36 + 2 = 38) ?_
            refine hp_iload_n E hl 2 rfl 2 rfl dX7_years_38 (rfl : 38 + 1 = 39) ?_
            refine hp_imul E dX7_years_39 (rfl : 39 + 1 = 40) ?_
            refine hp_istore E hl 5 (lv' := [(0, hp_v B o), (1, .int a1), (2, .int a2), (3, .int a3), (4, .int v4)]) dX7_years_40 (rfl : 40 + 2 = 42) (by decide) rfl (fun ls hl => ?_)
            exact b42 _ _ _ _ _ _ h (lv_sub hl [1, 2, 3, 4, 5, 0] rfl) hR hm ms13
          · have h := h.2 hb
            refine hp_goto E (tgt := 178) dX7_years_33 (by decide) ?_
            exact b178 _ _ _ _ _ h hl hR hm ms13
        · have h := h.2 hb
          exact hp_vret E hR ⟨hm, h⟩ (Nat.le_of_ble_eq_true rfl) (Nat.le_of_ble_eq_true rfl) dX7_years_184
    exact key13 (μ13 v4 Sa13 + 1) v4 _ H locs ls (Nat.lt_succ_self _) hI hl hR hp_mono.rf
  unfold wp_X7_years at h
  refine hp_aload_n E hl 0 rfl 0 rfl dX7_years_0 (rfl : 0 + 1 = 1) ?_
  refine hp_iconst E (0 : Int32) (by decide) dX7_years_1 (rfl : 1 + 1 = 2) ?_
  refine hx_putI E hR in_X7 tyX7 tyX7_ok nmX7 hc0 rfl 49 (Nat.le_of_ble_eq_true rfl) rfl q1310 (fun _ h => h) (Or.inl rfl) (Or.inl rfl) dX7_years_2 (rfl : 2 + 3 = 5) (fun S1 H locs e3 hm2 hR => ?_)
  have h := h S1 e3
  have hm := hp_mono.tr hm hm2
  refine hp_aload_n E hl 0 rfl 0 rfl dX7_years_5 (rfl : 5 + 1 = 6) ?_
  refine hp_iconst E (0 : Int32) (by decide) dX7_years_6 (rfl : 6 + 1 = 7) ?_
  refine hx_putI E hR in_X7 tyX7 tyX7_ok nmX7 (hp_mono.c hm hc0) rfl 50 (Nat.le_of_ble_eq_true rfl) rfl q1311 (fun _ h => h) (Or.inl rfl) (Or.inl rfl) dX7_years_7 (rfl : 7 + 3 = 10) (fun S4 H locs e6 hm5 hR => ?_)
  have h := h S4 e6
  have hm := hp_mono.tr hm hm5
  refine hp_iconst E (0 : Int32) (by decide) dX7_years_10 (rfl : 10 + 1 = 11) ?_
  refine hp_istore E hl 4 (lv' := [(0, hp_v B o), (1, .int a1), (2, .int a2), (3, .int a3)]) dX7_years_11 (rfl : 11 + 2 = 13) (by decide) rfl (fun ls hl => ?_)
  exact b13 _ _ _ _ _ h (lv_sub hl [1, 2, 3, 4, 0] rfl) hR hm
def wb_X7_lived_54 (o : Nat) (a1 : Int32) (a2 : Int32) (a3 : Int32) (t0 : Int32) (S : hp_St) (Q : Int32 → Prop) : Prop := (¬ (st_I S o 49) = 0) ∧ Q (((1000 : Int32) * ((st_I S o 49) - t0)) / (st_I S o 49))
def wp_X7_lived (o : Nat) (a1 : Int32) (a2 : Int32) (a3 : Int32) (S : hp_St) (Q : Int32 → Prop) : Prop := ((((st_I S o 49) = 0) → (st_C S (st_R S o 21) = 50) ∧ (vp_in (((10 : Int32) * a1) + a2) (st_L S (st_R S o 21))) ∧ Q (st_I S (st_R S o 21) (((10 : Int32) * a1) + a2).toNatClampNeg)) ∧ ((¬ ((st_I S o 49) = 0)) → (((((st_I S o 50) + a3) < 0) → wb_X7_lived_54 o a1 a2 a3 (0 : Int32) S Q) ∧ ((¬ (((st_I S o 50) + a3) < 0)) → (((((st_I S o 50) + a3) ≤ (st_I S o 49)) → wb_X7_lived_54 o a1 a2 a3 ((st_I S o 50) + a3) S Q) ∧ ((¬ (((st_I S o 50) + a3) ≤ (st_I S o 49))) → wb_X7_lived_54 o a1 a2 a3 (st_I S o 49) S Q))))))
theorem nf_X7_lived : hp_nf yX7_lived 3 = true := by decide +kernel
set_option maxHeartbeats 4000000 in
theorem m_X7_lived {l : Launch} {B : Nat} {D : va_G} {s0 : State} {b0 : Nat} (G : hp_G l B D s0 b0) (o : Nat) (a1 : Int32) (a2 : Int32) (a3 : Int32) (Si : hp_St) (Q : Int32 → Prop) (hc0 : st_C Si o = 7) (h : wp_X7_lived o a1 a2 a3 Si Q) : hp_M l B D s0 yX7_lived cX7_lived 5 (some .int) 2 128 0 0 [hp_v B o, .int a1, .int a2, .int a3] Si (hp_Qi B D s0 (fun r S' => S' = Si ∧ Q r)) := by
  refine hp_start G (by decide +kernel) rfl rfl (lv := [(0, hp_v B o), (1, .int a1), (2, .int a2), (3, .int a3)]) (by simp [lg_sl, hp_vc, hp_ci, hp_cj]) (by simp [lv_args, hp_vc, hp_ci, hp_cj]) ?_
  intro p e s m args below meth c E ls hl hR
  generalize hH : s.heap = H at hR ⊢
  generalize hLo : ([] : List Loc) = locs at hR ⊢
  have b54 : ∀ (t0 : Int32) (H : Heap) (locs : List Loc) (ls : Array Slot), wb_X7_lived_54 o a1 a2 a3 t0 Si Q → lv_has ls 5 [(0, hp_v B o)] → hp_S B D s0 Si H locs → W p l e ({ frames := 2, cells := 0, slots := 0, locals := 128 } : Room) s m args below meth c H locs 0 0 (MQ below (hp_Qi B D s0 (fun r S' => S' = Si ∧ Q r)) args s 0 0 (fun q => B < q)) (F0 m 54 ls [.int t0]) := by
    intro t0 H locs ls h hl hR
    unfold wb_X7_lived_54 at h
    refine hp_istore E hl 4 (lv' := [(0, hp_v B o)]) dX7_lived_54 (rfl : 54 + 2 = 56) (by decide) rfl (fun ls hl => ?_)
    refine hp_sipush E (1000 : Int32) (by decide) dX7_lived_56 (rfl : 56 + 3 = 59) ?_
    refine hp_aload_n E hl 0 rfl 1 rfl dX7_lived_59 (rfl : 59 + 1 = 60) ?_
    refine hp_getI E hR in_X7 hc0 rfl 49 (Nat.le_of_ble_eq_true rfl) rfl q1310 (fun _ h => h) dX7_lived_60 (rfl : 60 + 3 = 63) ?_
    refine hp_iload E hl 0 rfl dX7_lived_63 (rfl : 63 + 2 = 65) ?_
    refine hp_isub E dX7_lived_65 (rfl : 65 + 1 = 66) ?_
    refine hp_imul E dX7_lived_66 (rfl : 66 + 1 = 67) ?_
    refine hp_aload_n E hl 0 rfl 1 rfl dX7_lived_67 (rfl : 67 + 1 = 68) ?_
    refine hp_getI E hR in_X7 hc0 rfl 49 (Nat.le_of_ble_eq_true rfl) rfl q1310 (fun _ h => h) dX7_lived_68 (rfl : 68 + 3 = 71) ?_
    obtain ⟨hz5401, h⟩ := h
    refine hp_idiv E hz5401 dX7_lived_71 (rfl : 71 + 1 = 72) ?_
    exact hp_iret E hR ⟨rfl, h⟩ (Nat.le_of_ble_eq_true rfl) (Nat.le_of_ble_eq_true rfl) dX7_lived_72
  unfold wp_X7_lived at h
  refine hp_aload_n E hl 0 rfl 0 rfl dX7_lived_0 (rfl : 0 + 1 = 1) ?_
  refine hp_getI E hR in_X7 hc0 rfl 49 (Nat.le_of_ble_eq_true rfl) rfl q1310 (fun _ h => h) dX7_lived_1 (rfl : 1 + 3 = 4) ?_
  refine hp_if_ne E dX7_lived_4 (rfl : 4 + 3 = 7) (tgt := 19) (by decide) (fun hb => ?_) (fun hb => ?_)
  · have h := h.1 hb
    refine hp_aload_n E hl 0 rfl 0 rfl dX7_lived_7 (rfl : 7 + 1 = 8) ?_
    refine hp_getR E hR in_X7 hc0 rfl 21 (Nat.le_of_ble_eq_true rfl) rfl q1282 (fun _ h => h) dX7_lived_8 (rfl : 8 + 3 = 11) ?_
    refine hp_bipush E (10 : Int32) (by decide) dX7_lived_11 (rfl : 11 + 2 = 13) ?_
    refine hp_iload_n E hl 1 rfl 1 rfl dX7_lived_13 (rfl : 13 + 1 = 14) ?_
    refine hp_imul E dX7_lived_14 (rfl : 14 + 1 = 15) ?_
    refine hp_iload_n E hl 2 rfl 2 rfl dX7_lived_15 (rfl : 15 + 1 = 16) ?_
    refine hp_iadd E dX7_lived_16 (rfl : 16 + 1 = 17) ?_
    obtain ⟨hc1, h⟩ := h
    obtain ⟨hi2, h⟩ := h
    refine hp_iald E hR hc1 hi2 dX7_lived_17 (rfl : 17 + 1 = 18) ?_
    exact hp_iret E hR ⟨rfl, h⟩ (Nat.le_of_ble_eq_true rfl) (Nat.le_of_ble_eq_true rfl) dX7_lived_18
  · have h := h.2 hb
    refine hp_aload_n E hl 0 rfl 0 rfl dX7_lived_19 (rfl : 19 + 1 = 20) ?_
    refine hp_getI E hR in_X7 hc0 rfl 50 (Nat.le_of_ble_eq_true rfl) rfl q1311 (fun _ h => h) dX7_lived_20 (rfl : 20 + 3 = 23) ?_
    refine hp_iload_n E hl 3 rfl 3 rfl dX7_lived_23 (rfl : 23 + 1 = 24) ?_
    refine hp_iadd E dX7_lived_24 (rfl : 24 + 1 = 25) ?_
    refine hp_istore E hl 4 (lv' := [(0, hp_v B o), (1, .int a1), (2, .int a2), (3, .int a3)]) dX7_lived_25 (rfl : 25 + 2 = 27) (by decide) rfl (fun ls hl => ?_)
    refine hp_iload E hl 0 rfl dX7_lived_27 (rfl : 27 + 2 = 29) ?_
    refine hp_if_ge E dX7_lived_29 (rfl : 29 + 3 = 32) (tgt := 36) (by decide) (fun hb => ?_) (fun hb => ?_)
    · have h := h.1 hb
      refine hp_iconst E (0 : Int32) (by decide) dX7_lived_32 (rfl : 32 + 1 = 33) ?_
      refine hp_goto E (tgt := 54) dX7_lived_33 (by decide) ?_
      exact b54 _ _ _ _ h (lv_sub hl [1] rfl) hR
    · have h := h.2 hb
      refine hp_iload E hl 0 rfl dX7_lived_36 (rfl : 36 + 2 = 38) ?_
      refine hp_aload_n E hl 0 rfl 1 rfl dX7_lived_38 (rfl : 38 + 1 = 39) ?_
      refine hp_getI E hR in_X7 hc0 rfl 49 (Nat.le_of_ble_eq_true rfl) rfl q1310 (fun _ h => h) dX7_lived_39 (rfl : 39 + 3 = 42) ?_
      refine hp_icmp_le E dX7_lived_42 (rfl : 42 + 3 = 45) (tgt := 52) (by decide) (fun hb => ?_) (fun hb => ?_)
      · have h := h.1 hb
        refine hp_iload E hl 0 rfl dX7_lived_52 (rfl : 52 + 2 = 54) ?_
        exact b54 _ _ _ _ h (lv_sub hl [1] rfl) hR
      · have h := h.2 hb
        refine hp_aload_n E hl 0 rfl 1 rfl dX7_lived_45 (rfl : 45 + 1 = 46) ?_
        refine hp_getI E hR in_X7 hc0 rfl 49 (Nat.le_of_ble_eq_true rfl) rfl q1310 (fun _ h => h) dX7_lived_46 (rfl : 46 + 3 = 49) ?_
        refine hp_goto E (tgt := 54) dX7_lived_49 (by decide) ?_
        exact b54 _ _ _ _ h (lv_sub hl [1] rfl) hR
def wb_X7_own_41 (o : Nat) (a1 : Int32) (a2 : Int32) (a3 : Int32) (a4 : Int32) (S : hp_St) (Q : Int32 → hp_St → Prop) : Prop := Q (-1 : Int32) S
def wb_X7_own_107 (o : Nat) (a1 : Int32) (a2 : Int32) (a3 : Int32) (a4 : Int32) (t0 : Int32) (S : hp_St) (Q : Int32 → hp_St → Prop) : Prop := Q t0 S
def wb_X7_own_104 (o : Nat) (a1 : Int32) (a2 : Int32) (a3 : Int32) (a4 : Int32) (t0 : Nat) (t1 : Int32) (t2 : Int32) (t3 : Int32) (S : hp_St) (Q : Int32 → hp_St → Prop) : Prop := (st_C S t0 = 7) ∧ wp_X7_lived t0 t1 t2 t3 S (fun z10402 => wb_X7_own_107 o a1 a2 a3 a4 z10402 S Q)
def wp_X7_own (o : Nat) (a1 : Int32) (a2 : Int32) (a3 : Int32) (a4 : Int32) (S : hp_St) (Q : Int32 → hp_St → Prop) : Prop := (∀ S1, S1 = st_pI S o 2 (0 : Int32) → wp_X7_isIn a1 (0 : Int32) (3 : Int32) S1 (fun z4 => (((z4 = 0) → wb_X7_own_41 o a1 a2 a3 a4 S1 Q) ∧ ((¬ (z4 = 0)) → wp_X7_isIn a2 (0 : Int32) (9 : Int32) S1 (fun z5 => (((z5 = 0) → wb_X7_own_41 o a1 a2 a3 a4 S1 Q) ∧ ((¬ (z5 = 0)) → wp_X7_isHalf a3 S1 (fun z6 => (((z6 = 0) → wb_X7_own_41 o a1 a2 a3 a4 S1 Q) ∧ ((¬ (z6 = 0)) → wp_X7_isIn a4 (0 : Int32) (4 : Int32) S1 (fun z7 => (((z7 = 0) → wb_X7_own_41 o a1 a2 a3 a4 S1 Q) ∧ ((¬ (z7 = 0)) → wp_X7_know o a3 S1 (fun S8 => hp_mono S1 S8 → wp_X7_years o a1 a2 a3 S8 (fun S10 => hp_mono S8 S10 → (((a4 = 0) → wb_X7_own_107 o a1 a2 a3 a4 (st_I S10 o 49) S10 Q) ∧ ((¬ (a4 = 0)) → (((a4 = (1 : Int32)) → wb_X7_own_107 o a1 a2 a3 a4 (st_I S10 o 50) S10 Q) ∧ ((¬ (a4 = (1 : Int32))) → (((a4 = (2 : Int32)) → wb_X7_own_104 o a1 a2 a3 a4 o a1 a2 (0 : Int32) S10 Q) ∧ ((¬ (a4 = (2 : Int32))) → (((a4 = (3 : Int32)) → wb_X7_own_104 o a1 a2 a3 a4 o a1 a2 (1 : Int32) S10 Q) ∧ ((¬ (a4 = (3 : Int32))) → wb_X7_own_104 o a1 a2 a3 a4 o a1 a2 (-1 : Int32) S10 Q)))))))))))))))))))))))
theorem nf_X7_own : hp_nf yX7_own 4 = true := by decide +kernel
set_option maxHeartbeats 4000000 in
theorem m_X7_own {l : Launch} {B : Nat} {D : va_G} {s0 : State} {b0 : Nat} (G : hp_G l B D s0 b0) (o : Nat) (a1 : Int32) (a2 : Int32) (a3 : Int32) (a4 : Int32) (Si : hp_St) (Q : Int32 → hp_St → Prop) (hc0 : st_C Si o = 7) (h : wp_X7_own o a1 a2 a3 a4 Si Q) : hp_M l B D s0 yX7_own cX7_own 5 (some .int) 3 192 0 0 [hp_v B o, .int a1, .int a2, .int a3, .int a4] Si (hp_Qi B D s0 (fun r S' => hp_mono Si S' ∧ Q r S')) := by
  refine hp_start G (by decide +kernel) rfl rfl (lv := [(0, hp_v B o), (1, .int a1), (2, .int a2), (3, .int a3), (4, .int a4)]) (by simp [lg_sl, hp_vc, hp_ci, hp_cj]) (by simp [lv_args, hp_vc, hp_ci, hp_cj]) ?_
  intro p e s m args below meth c E ls hl hR
  have hm : hp_mono Si Si := hp_mono.rf
  generalize hH : s.heap = H at hR ⊢
  generalize hLo : ([] : List Loc) = locs at hR ⊢
  have b41 : ∀ (S : hp_St) (H : Heap) (locs : List Loc) (ls : Array Slot), wb_X7_own_41 o a1 a2 a3 a4 S Q → lv_has ls 5 [] → hp_S B D s0 S H locs → hp_mono Si S → W p l e ({ frames := 3, cells := 0, slots := 0, locals := 192 } : Room) s m args below meth c H locs 0 0 (MQ below (hp_Qi B D s0 (fun r S' => hp_mono Si S' ∧ Q r S')) args s 0 0 (fun q => B < q)) (F0 m 41 ls []) := by
    intro S H locs ls h hl hR hm
    unfold wb_X7_own_41 at h
    refine hp_iconst E (-1 : Int32) (by decide) dX7_own_41 (rfl : 41 + 1 = 42) ?_
    exact hp_iret E hR ⟨hm, h⟩ (Nat.le_of_ble_eq_true rfl) (Nat.le_of_ble_eq_true rfl) dX7_own_42
  have b107 : ∀ (t0 : Int32) (S : hp_St) (H : Heap) (locs : List Loc) (ls : Array Slot), wb_X7_own_107 o a1 a2 a3 a4 t0 S Q → lv_has ls 5 [] → hp_S B D s0 S H locs → hp_mono Si S → W p l e ({ frames := 3, cells := 0, slots := 0, locals := 192 } : Room) s m args below meth c H locs 0 0 (MQ below (hp_Qi B D s0 (fun r S' => hp_mono Si S' ∧ Q r S')) args s 0 0 (fun q => B < q)) (F0 m 107 ls [.int t0]) := by
    intro t0 S H locs ls h hl hR hm
    unfold wb_X7_own_107 at h
    exact hp_iret E hR ⟨hm, h⟩ (Nat.le_of_ble_eq_true rfl) (Nat.le_of_ble_eq_true rfl) dX7_own_107
  have b104 : ∀ (t0 : Nat) (t1 : Int32) (t2 : Int32) (t3 : Int32) (S : hp_St) (H : Heap) (locs : List Loc) (ls : Array Slot), wb_X7_own_104 o a1 a2 a3 a4 t0 t1 t2 t3 S Q → lv_has ls 5 [] → hp_S B D s0 S H locs → hp_mono Si S → W p l e ({ frames := 3, cells := 0, slots := 0, locals := 192 } : Room) s m args below meth c H locs 0 0 (MQ below (hp_Qi B D s0 (fun r S' => hp_mono Si S' ∧ Q r S')) args s 0 0 (fun q => B < q)) (F0 m 104 ls [.int t3, .int t2, .int t1, hp_v B t0]) := by
    intro t0 t1 t2 t3 S H locs ls h hl hR hm
    unfold wb_X7_own_104 at h
    obtain ⟨hc10401, h⟩ := h
    refine hp_fi (hp_rV E hR hl (m_X7_lived G _ _ _ _ _ _ hc10401 h) hc10401 (ci := 6) rfl rfl q1645 q1647 qs62 q82 q1648 nf_X7_lived ⟨Nat.le_of_ble_eq_true rfl, Nat.le_of_ble_eq_true rfl⟩ (rest := []) rfl (Nat.le_of_ble_eq_true rfl) dX7_own_104 ⟨Nat.le_of_ble_eq_true rfl, Nat.le_of_ble_eq_true rfl⟩) hR (rfl : 104 + 3 = 107) (fun z10402 Sx H locs hq hR => ?_)
    obtain ⟨hSx, h⟩ := hq
    rw [hSx] at hR
    exact b107 _ _ _ _ _ h hl hR hm
  unfold wp_X7_own at h
  refine hp_aload_n E hl 0 rfl 0 rfl dX7_own_0 (rfl : 0 + 1 = 1) ?_
  refine hp_iconst E (0 : Int32) (by decide) dX7_own_1 (rfl : 1 + 1 = 2) ?_
  refine hx_putI E hR in_X7 tyX7 tyX7_ok nmX7 hc0 rfl 2 (Nat.le_of_ble_eq_true rfl) rfl q1263 (fun _ h => h) (Or.inl rfl) (Or.inl rfl) dX7_own_2 (rfl : 2 + 3 = 5) (fun S1 H locs e3 hm2 hR => ?_)
  have h := h S1 e3
  have hm := hp_mono.tr hm hm2
  refine hp_iload_n E hl 1 rfl 1 rfl dX7_own_5 (rfl : 5 + 1 = 6) ?_
  refine hp_iconst E (0 : Int32) (by decide) dX7_own_6 (rfl : 6 + 1 = 7) ?_
  refine hp_iconst E (3 : Int32) (by decide) dX7_own_7 (rfl : 7 + 1 = 8) ?_
  refine hp_fi (hp_rS E hR hl (m_X7_isIn G _ _ _ _ _ h) q1504 q1505 q82 q1506 nf_X7_isIn ⟨Nat.le_of_ble_eq_true rfl, Nat.le_of_ble_eq_true rfl⟩ (rest := []) rfl (Nat.le_of_ble_eq_true rfl) dX7_own_8 ⟨Nat.le_of_ble_eq_true rfl, Nat.le_of_ble_eq_true rfl⟩) hR (rfl : 8 + 3 = 11) (fun z4 Sx H locs hq hR => ?_)
  obtain ⟨hSx, h⟩ := hq
  rw [hSx] at hR
  refine hp_if_eq E dX7_own_11 (rfl : 11 + 3 = 14) (tgt := 41) (by decide) (fun hb => ?_) (fun hb => ?_)
  · have h := h.1 hb
    exact b41 _ _ _ _ h (lv_sub hl [] rfl) hR hm
  · have h := h.2 hb
    refine hp_iload_n E hl 2 rfl 2 rfl dX7_own_14 (rfl : 14 + 1 = 15) ?_
    refine hp_iconst E (0 : Int32) (by decide) dX7_own_15 (rfl : 15 + 1 = 16) ?_
    refine hp_bipush E (9 : Int32) (by decide) dX7_own_16 (rfl : 16 + 2 = 18) ?_
    refine hp_fi (hp_rS E hR hl (m_X7_isIn G _ _ _ _ _ h) q1504 q1505 q82 q1506 nf_X7_isIn ⟨Nat.le_of_ble_eq_true rfl, Nat.le_of_ble_eq_true rfl⟩ (rest := []) rfl (Nat.le_of_ble_eq_true rfl) dX7_own_18 ⟨Nat.le_of_ble_eq_true rfl, Nat.le_of_ble_eq_true rfl⟩) hR (rfl : 18 + 3 = 21) (fun z5 Sx H locs hq hR => ?_)
    obtain ⟨hSx, h⟩ := hq
    rw [hSx] at hR
    refine hp_if_eq E dX7_own_21 (rfl : 21 + 3 = 24) (tgt := 41) (by decide) (fun hb => ?_) (fun hb => ?_)
    · have h := h.1 hb
      exact b41 _ _ _ _ h (lv_sub hl [] rfl) hR hm
    · have h := h.2 hb
      refine hp_iload_n E hl 3 rfl 3 rfl dX7_own_24 (rfl : 24 + 1 = 25) ?_
      refine hp_fi (hp_rS E hR hl (m_X7_isHalf G _ _ _ h) q1562 q1563 q82 q1564 nf_X7_isHalf ⟨Nat.le_of_ble_eq_true rfl, Nat.le_of_ble_eq_true rfl⟩ (rest := []) rfl (Nat.le_of_ble_eq_true rfl) dX7_own_25 ⟨Nat.le_of_ble_eq_true rfl, Nat.le_of_ble_eq_true rfl⟩) hR (rfl : 25 + 3 = 28) (fun z6 Sx H locs hq hR => ?_)
      obtain ⟨hSx, h⟩ := hq
      rw [hSx] at hR
      refine hp_if_eq E dX7_own_28 (rfl : 28 + 3 = 31) (tgt := 41) (by decide) (fun hb => ?_) (fun hb => ?_)
      · have h := h.1 hb
        exact b41 _ _ _ _ h (lv_sub hl [] rfl) hR hm
      · have h := h.2 hb
        refine hp_iload E hl 4 rfl dX7_own_31 (rfl : 31 + 2 = 33) ?_
        refine hp_iconst E (0 : Int32) (by decide) dX7_own_33 (rfl : 33 + 1 = 34) ?_
        refine hp_iconst E (4 : Int32) (by decide) dX7_own_34 (rfl : 34 + 1 = 35) ?_
        refine hp_fi (hp_rS E hR hl (m_X7_isIn G _ _ _ _ _ h) q1504 q1505 q82 q1506 nf_X7_isIn ⟨Nat.le_of_ble_eq_true rfl, Nat.le_of_ble_eq_true rfl⟩ (rest := []) rfl (Nat.le_of_ble_eq_true rfl) dX7_own_35 ⟨Nat.le_of_ble_eq_true rfl, Nat.le_of_ble_eq_true rfl⟩) hR (rfl : 35 + 3 = 38) (fun z7 Sx H locs hq hR => ?_)
        obtain ⟨hSx, h⟩ := hq
        rw [hSx] at hR
        refine hp_if_ne E dX7_own_38 (rfl : 38 + 3 = 41) (tgt := 43) (by decide) (fun hb => ?_) (fun hb => ?_)
        · have h := h.1 hb
          exact b41 _ _ _ _ h (lv_sub hl [] rfl) hR hm
        · have h := h.2 hb
          refine hp_aload_n E hl 0 rfl 0 rfl dX7_own_43 (rfl : 43 + 1 = 44) ?_
          refine hp_iload_n E hl 3 rfl 3 rfl dX7_own_44 (rfl : 44 + 1 = 45) ?_
          refine hp_fv (hp_rV E hR hl (m_X7_know G _ _ _ _ (hp_mono.c hm hc0) h) (hp_mono.c hm hc0) (ci := 6) rfl rfl q1581 q1583 qs53 q82 q1584 nf_X7_know ⟨Nat.le_of_ble_eq_true rfl, Nat.le_of_ble_eq_true rfl⟩ (rest := []) rfl (Nat.le_of_ble_eq_true rfl) dX7_own_45 ⟨Nat.le_of_ble_eq_true rfl, Nat.le_of_ble_eq_true rfl⟩) hR (rfl : 45 + 3 = 48) (fun S8 H locs hq hR => ?_)
          obtain ⟨hm9, h⟩ := hq
          have h := h hm9
          have hm := hp_mono.tr hm hm9
          refine hp_aload_n E hl 0 rfl 0 rfl dX7_own_48 (rfl : 48 + 1 = 49) ?_
          refine hp_iload_n E hl 1 rfl 1 rfl dX7_own_49 (rfl : 49 + 1 = 50) ?_
          refine hp_iload_n E hl 2 rfl 2 rfl dX7_own_50 (rfl : 50 + 1 = 51) ?_
          refine hp_iload_n E hl 3 rfl 3 rfl dX7_own_51 (rfl : 51 + 1 = 52) ?_
          refine hp_fv (hp_rV E hR hl (m_X7_years G _ _ _ _ _ _ (hp_mono.c hm hc0) h) (hp_mono.c hm hc0) (ci := 6) rfl rfl q1641 q1643 qs61 q82 q1644 nf_X7_years ⟨Nat.le_of_ble_eq_true rfl, Nat.le_of_ble_eq_true rfl⟩ (rest := []) rfl (Nat.le_of_ble_eq_true rfl) dX7_own_52 ⟨Nat.le_of_ble_eq_true rfl, Nat.le_of_ble_eq_true rfl⟩) hR (rfl : 52 + 3 = 55) (fun S10 H locs hq hR => ?_)
          obtain ⟨hm11, h⟩ := hq
          have h := h hm11
          have hm := hp_mono.tr hm hm11
          refine hp_iload E hl 4 rfl dX7_own_55 (rfl : 55 + 2 = 57) ?_
          refine hp_if_ne E dX7_own_57 (rfl : 57 + 3 = 60) (tgt := 67) (by decide) (fun hb => ?_) (fun hb => ?_)
          · have h := h.1 hb
            refine hp_aload_n E hl 0 rfl 0 rfl dX7_own_60 (rfl : 60 + 1 = 61) ?_
            refine hp_getI E hR in_X7 (hp_mono.c hm hc0) rfl 49 (Nat.le_of_ble_eq_true rfl) rfl q1310 (fun _ h => h) dX7_own_61 (rfl : 61 + 3 = 64) ?_
            refine hp_goto E (tgt := 107) dX7_own_64 (by decide) ?_
            exact b107 _ _ _ _ _ h (lv_sub hl [] rfl) hR hm
          · have h := h.2 hb
            refine hp_iload E hl 4 rfl dX7_own_67 (rfl : 67 + 2 = 69) ?_
            refine hp_iconst E (1 : Int32) (by decide) dX7_own_69 (rfl : 69 + 1 = 70) ?_
            refine hp_icmp_ne E dX7_own_70 (rfl : 70 + 3 = 73) (tgt := 80) (by decide) (fun hb => ?_) (fun hb => ?_)
            · have h := h.1 hb
              refine hp_aload_n E hl 0 rfl 0 rfl dX7_own_73 (rfl : 73 + 1 = 74) ?_
              refine hp_getI E hR in_X7 (hp_mono.c hm hc0) rfl 50 (Nat.le_of_ble_eq_true rfl) rfl q1311 (fun _ h => h) dX7_own_74 (rfl : 74 + 3 = 77) ?_
              refine hp_goto E (tgt := 107) dX7_own_77 (by decide) ?_
              exact b107 _ _ _ _ _ h (lv_sub hl [] rfl) hR hm
            · have h := h.2 hb
              refine hp_aload_n E hl 0 rfl 0 rfl dX7_own_80 (rfl : 80 + 1 = 81) ?_
              refine hp_iload_n E hl 1 rfl 1 rfl dX7_own_81 (rfl : 81 + 1 = 82) ?_
              refine hp_iload_n E hl 2 rfl 2 rfl dX7_own_82 (rfl : 82 + 1 = 83) ?_
              refine hp_iload E hl 4 rfl dX7_own_83 (rfl : 83 + 2 = 85) ?_
              refine hp_iconst E (2 : Int32) (by decide) dX7_own_85 (rfl : 85 + 1 = 86) ?_
              refine hp_icmp_ne E dX7_own_86 (rfl : 86 + 3 = 89) (tgt := 93) (by decide) (fun hb => ?_) (fun hb => ?_)
              · have h := h.1 hb
                refine hp_iconst E (0 : Int32) (by decide) dX7_own_89 (rfl : 89 + 1 = 90) ?_
                refine hp_goto E (tgt := 104) dX7_own_90 (by decide) ?_
                exact b104 _ _ _ _ _ _ _ _ h (lv_sub hl [] rfl) hR hm
              · have h := h.2 hb
                refine hp_iload E hl 4 rfl dX7_own_93 (rfl : 93 + 2 = 95) ?_
                refine hp_iconst E (3 : Int32) (by decide) dX7_own_95 (rfl : 95 + 1 = 96) ?_
                refine hp_icmp_ne E dX7_own_96 (rfl : 96 + 3 = 99) (tgt := 103) (by decide) (fun hb => ?_) (fun hb => ?_)
                · have h := h.1 hb
                  refine hp_iconst E (1 : Int32) (by decide) dX7_own_99 (rfl : 99 + 1 = 100) ?_
                  refine hp_goto E (tgt := 104) dX7_own_100 (by decide) ?_
                  exact b104 _ _ _ _ _ _ _ _ h (lv_sub hl [] rfl) hR hm
                · have h := h.2 hb
                  refine hp_iconst E (-1 : Int32) (by decide) dX7_own_103 (rfl : 103 + 1 = 104) ?_
                  exact b104 _ _ _ _ _ _ _ _ h (lv_sub hl [] rfl) hR hm
def wb_X7_lay_94 (o : Nat) (a1 : Int32) (v2 : Int32) (v3 : Int32) (t0 : Nat) (t1 : Int32) (t2 : Int32) (S : hp_St) (K14 : Int32 → hp_St → Prop) (K21 : Int32 → hp_St → Prop) (Q : hp_St → Prop) : Prop := (st_C S t0 = 50) ∧ (vp_in t1 (st_L S t0)) ∧ (∀ S9403, S9403 = st_pI S t0 t1.toNatClampNeg t2 → K21 (v3 + (1 : Int32)) S9403)
def wb_X7_lay_91 (o : Nat) (a1 : Int32) (v2 : Int32) (v3 : Int32) (t0 : Nat) (t1 : Int32) (t2 : Nat) (t3 : Int32) (t4 : Int32) (t5 : Int32) (S : hp_St) (K14 : Int32 → hp_St → Prop) (K21 : Int32 → hp_St → Prop) (Q : hp_St → Prop) : Prop := (st_C S t2 = 7) ∧ wp_X7_lived t2 t3 t4 t5 S (fun z9102 => wb_X7_lay_94 o a1 v2 v3 t0 t1 z9102 S K14 K21 Q)
def wb_X7_lay_41 (o : Nat) (a1 : Int32) (v2 : Int32) (v3 : Int32) (S : hp_St) (K14 : Int32 → hp_St → Prop) (K21 : Int32 → hp_St → Prop) (Q : hp_St → Prop) : Prop := (((a1 = 0) → (st_C S (st_R S o 21) = 50) ∧ (vp_in (((10 : Int32) * v2) + v3) (st_L S (st_R S o 21))) ∧ wb_X7_lay_94 o a1 v2 v3 (st_R S o 51) (((10 : Int32) * v2) + v3) (st_I S (st_R S o 21) (((10 : Int32) * v2) + v3).toNatClampNeg) S K14 K21 Q) ∧ ((¬ (a1 = 0)) → (((a1 = (1 : Int32)) → wb_X7_lay_91 o a1 v2 v3 (st_R S o 51) (((10 : Int32) * v2) + v3) o v2 v3 (0 : Int32) S K14 K21 Q) ∧ ((¬ (a1 = (1 : Int32))) → (((a1 = (2 : Int32)) → wb_X7_lay_91 o a1 v2 v3 (st_R S o 51) (((10 : Int32) * v2) + v3) o v2 v3 (1 : Int32) S K14 K21 Q) ∧ ((¬ (a1 = (2 : Int32))) → wb_X7_lay_91 o a1 v2 v3 (st_R S o 51) (((10 : Int32) * v2) + v3) o v2 v3 (-1 : Int32) S K14 K21 Q))))))
def wb_X7_lay_21 (o : Nat) (a1 : Int32) (v2 : Int32) (v3 : Int32) (S : hp_St) (K14 : Int32 → hp_St → Prop) (K21 : Int32 → hp_St → Prop) (Q : hp_St → Prop) : Prop := (((v3 < (10 : Int32)) → (((a1 ≤ 0) → wb_X7_lay_41 o a1 v2 v3 S K14 K21 Q) ∧ ((¬ (a1 ≤ 0)) → wp_X7_years o v2 v3 (st_I S o 3) S (fun S2101 => hp_mono S S2101 → wb_X7_lay_41 o a1 v2 v3 S2101 K14 K21 Q)))) ∧ ((¬ (v3 < (10 : Int32))) → K14 (v2 + (1 : Int32)) S))
def wl_X7_lay_21 (o : Nat) (a1 : Int32) (v2 : Int32) (v3 : Int32) (S : hp_St) (K14 : Int32 → hp_St → Prop) (Q : hp_St → Prop) : Prop := ∃ (I : Int32 → hp_St → Prop) (μ : Int32 → hp_St → Nat), I v3 S ∧ ∀ (v3 : Int32) (S1 : hp_St), hp_mono S S1 → I v3 S1 → wb_X7_lay_21 o a1 v2 v3 S1 K14 (fun v3' S2 => I v3' S2 ∧ μ v3' S2 < μ v3 S1) Q
def wb_X7_lay_14 (o : Nat) (a1 : Int32) (v2 : Int32) (S : hp_St) (K14 : Int32 → hp_St → Prop) (Q : hp_St → Prop) : Prop := (((v2 < (4 : Int32)) → wl_X7_lay_21 o a1 v2 (0 : Int32) S K14 Q) ∧ ((¬ (v2 < (4 : Int32))) → Q S))
def wl_X7_lay_14 (o : Nat) (a1 : Int32) (v2 : Int32) (S : hp_St) (Q : hp_St → Prop) : Prop := ∃ (I : Int32 → hp_St → Prop) (μ : Int32 → hp_St → Nat), I v2 S ∧ ∀ (v2 : Int32) (S1 : hp_St), hp_mono S S1 → I v2 S1 → wb_X7_lay_14 o a1 v2 S1 (fun v2' S2 => I v2' S2 ∧ μ v2' S2 < μ v2 S1) Q
def wb_X7_lay_12 (o : Nat) (a1 : Int32) (S : hp_St) (Q : hp_St → Prop) : Prop := wl_X7_lay_14 o a1 (0 : Int32) S Q
def wp_X7_lay (o : Nat) (a1 : Int32) (S : hp_St) (Q : hp_St → Prop) : Prop := (((a1 ≤ 0) → wb_X7_lay_12 o a1 S Q) ∧ ((¬ (a1 ≤ 0)) → wp_X7_know o (st_I S o 3) S (fun S1 => hp_mono S S1 → wb_X7_lay_12 o a1 S1 Q)))
theorem nf_X7_lay : hp_nf yX7_lay 1 = true := by decide +kernel
set_option maxHeartbeats 4000000 in
theorem m_X7_lay {l : Launch} {B : Nat} {D : va_G} {s0 : State} {b0 : Nat} (G : hp_G l B D s0 b0) (o : Nat) (a1 : Int32) (Si : hp_St) (Q : hp_St → Prop) (hc0 : st_C Si o = 7) (h : wp_X7_lay o a1 Si Q) : hp_M l B D s0 yX7_lay cX7_lay 4 none 3 192 0 0 [hp_v B o, .int a1] Si (hp_Qv B D s0 (fun S' => hp_mono Si S' ∧ Q S')) := by
  refine hp_start G (by decide +kernel) rfl rfl (lv := [(0, hp_v B o), (1, .int a1)]) (by simp [lg_sl, hp_vc, hp_ci, hp_cj]) (by simp [lv_args, hp_vc, hp_ci, hp_cj]) ?_
  intro p e s m args below meth c E ls hl hR
  have hm : hp_mono Si Si := hp_mono.rf
  generalize hH : s.heap = H at hR ⊢
  generalize hLo : ([] : List Loc) = locs at hR ⊢
  have b14 : ∀ (v2 : Int32) (S : hp_St) (H : Heap) (locs : List Loc) (ls : Array Slot), wl_X7_lay_14 o a1 v2 S Q → lv_has ls 4 [(0, hp_v B o), (1, .int a1), (2, .int v2)] → hp_S B D s0 S H locs → hp_mono Si S → W p l e ({ frames := 3, cells := 0, slots := 0, locals := 192 } : Room) s m args below meth c H locs 0 0 (MQ below (hp_Qv B D s0 (fun S' => hp_mono Si S' ∧ Q S')) args s 0 0 (fun q => B < q)) (F0 m 14 ls []) := by
    intro v2 S H locs ls h hl hR hm
    obtain ⟨I14, μ14, hI, hst⟩ := h
    obtain ⟨Sa14, eSa14⟩ : ∃ x, x = S := ⟨_, rfl⟩
    subst eSa14
    have key14 : ∀ (N : Nat) (v2 : Int32) (Su14 : hp_St) (H : Heap) (locs : List Loc) (ls : Array Slot), μ14 v2 Su14 < N → I14 v2 Su14 → lv_has ls 4 [(0, hp_v B o), (1, .int a1), (2, .int v2)] → hp_S B D s0 Su14 H locs → hp_mono Sa14 Su14 → W p l e ({ frames := 3, cells := 0, slots := 0, locals := 192 } : Room) s m args below meth c H locs 0 0 (MQ below (hp_Qv B D s0 (fun S' => hp_mono Si S' ∧ Q S')) args s 0 0 (fun q => B < q)) (F0 m 14 ls []) := by
      intro N
      induction N with
      | zero =>
        intro v2 Su14 H locs ls hN
        exact absurd hN (Nat.not_lt_zero _)
      | succ N ih14 =>
        intro v2 Su14 H locs ls hN hI hl hR ms14
        have h := hst v2 Su14 ms14 hI
        have hm := hp_mono.tr hm ms14
        obtain ⟨K14, hKe14⟩ : ∃ K : Int32 → hp_St → Prop, K = (fun v2' Sk => I14 v2' Sk ∧ μ14 v2' Sk < μ14 v2 Su14) := ⟨_, rfl⟩
        rw [← hKe14] at h
        have hK14 : ∀ (v2' : Int32) (Sk : hp_St) (H : Heap) (locs : List Loc) (ls : Array Slot), K14 v2' Sk → lv_has ls 4 [(0, hp_v B o), (1, .int a1), (2, .int (v2'))] → hp_S B D s0 Sk H locs → hp_mono Sa14 Sk → W p l e ({ frames := 3, cells := 0, slots := 0, locals := 192 } : Room) s m args below meth c H locs 0 0 (MQ below (hp_Qv B D s0 (fun S' => hp_mono Si S' ∧ Q S')) args s 0 0 (fun q => B < q)) (F0 m 14 ls []) := by
          intro v2' Sk H locs ls hI hl hR ms
          rw [hKe14] at hI
          exact ih14 v2' Sk H locs ls (Nat.lt_of_lt_of_le hI.2 (Nat.le_of_lt_succ hN)) hI.1 hl hR ms
        have b21 : ∀ (v2 : Int32) (v3 : Int32) (S : hp_St) (H : Heap) (locs : List Loc) (ls : Array Slot), wl_X7_lay_21 o a1 v2 v3 S K14 Q → lv_has ls 4 [(0, hp_v B o), (1, .int a1), (2, .int v2), (3, .int v3)] → hp_S B D s0 S H locs → hp_mono Si S → hp_mono Sa14 S → W p l e ({ frames := 3, cells := 0, slots := 0, locals := 192 } : Room) s m args below meth c H locs 0 0 (MQ below (hp_Qv B D s0 (fun S' => hp_mono Si S' ∧ Q S')) args s 0 0 (fun q => B < q)) (F0 m 21 ls []) := by
          intro v2 v3 S H locs ls h hl hR hm ms14
          obtain ⟨I21, μ21, hI, hst⟩ := h
          obtain ⟨Sa21, eSa21⟩ : ∃ x, x = S := ⟨_, rfl⟩
          subst eSa21
          have key21 : ∀ (N : Nat) (v3 : Int32) (Su21 : hp_St) (H : Heap) (locs : List Loc) (ls : Array Slot), μ21 v3 Su21 < N → I21 v3 Su21 → lv_has ls 4 [(0, hp_v B o), (1, .int a1), (2, .int v2), (3, .int v3)] → hp_S B D s0 Su21 H locs → hp_mono Sa21 Su21 → W p l e ({ frames := 3, cells := 0, slots := 0, locals := 192 } : Room) s m args below meth c H locs 0 0 (MQ below (hp_Qv B D s0 (fun S' => hp_mono Si S' ∧ Q S')) args s 0 0 (fun q => B < q)) (F0 m 21 ls []) := by
            intro N
            induction N with
            | zero =>
              intro v3 Su21 H locs ls hN
              exact absurd hN (Nat.not_lt_zero _)
            | succ N ih21 =>
              intro v3 Su21 H locs ls hN hI hl hR ms21
              have h := hst v3 Su21 ms21 hI
              have hm := hp_mono.tr hm ms21
              have ms14 := hp_mono.tr ms14 ms21
              obtain ⟨K21, hKe21⟩ : ∃ K : Int32 → hp_St → Prop, K = (fun v3' Sk => I21 v3' Sk ∧ μ21 v3' Sk < μ21 v3 Su21) := ⟨_, rfl⟩
              rw [← hKe21] at h
              have hK21 : ∀ (v3' : Int32) (Sk : hp_St) (H : Heap) (locs : List Loc) (ls : Array Slot), K21 v3' Sk → lv_has ls 4 [(0, hp_v B o), (1, .int a1), (2, .int v2), (3, .int (v3'))] → hp_S B D s0 Sk H locs → hp_mono Sa21 Sk → W p l e ({ frames := 3, cells := 0, slots := 0, locals := 192 } : Room) s m args below meth c H locs 0 0 (MQ below (hp_Qv B D s0 (fun S' => hp_mono Si S' ∧ Q S')) args s 0 0 (fun q => B < q)) (F0 m 21 ls []) := by
                intro v3' Sk H locs ls hI hl hR ms
                rw [hKe21] at hI
                exact ih21 v3' Sk H locs ls (Nat.lt_of_lt_of_le hI.2 (Nat.le_of_lt_succ hN)) hI.1 hl hR ms
              have b94 : ∀ (v3 : Int32) (t0 : Nat) (t1 : Int32) (t2 : Int32) (S : hp_St) (H : Heap) (locs : List Loc) (ls : Array Slot), wb_X7_lay_94 o a1 v2 v3 t0 t1 t2 S K14 K21 Q → lv_has ls 4 [(0, hp_v B o), (1, .int a1), (2, .int v2), (3, .int v3)] → hp_S B D s0 S H locs → hp_mono Si S → hp_mono Sa14 S → hp_mono Sa21 S → W p l e ({ frames := 3, cells := 0, slots := 0, locals := 192 } : Room) s m args below meth c H locs 0 0 (MQ below (hp_Qv B D s0 (fun S' => hp_mono Si S' ∧ Q S')) args s 0 0 (fun q => B < q)) (F0 m 94 ls [.int t2, .int t1, hp_v B t0]) := by
                intro v3 t0 t1 t2 S H locs ls h hl hR hm ms14 ms21
                unfold wb_X7_lay_94 at h
                obtain ⟨hc9401, h⟩ := h
                obtain ⟨hi9402, h⟩ := h
                refine hx_iast E hR hc9401 hi9402 dX7_lay_94 (rfl : 94 + 1 = 95) (fun S9403 H locs e9405 hm9404 hR => ?_)
                have h := h S9403 e9405
                have hm := hp_mono.tr hm hm9404
                have ms14 := hp_mono.tr ms14 hm9404
                have ms21 := hp_mono.tr ms21 hm9404
                refine hp_iinc E hl (v3 + (1 : Int32)) 3 (lv' := [(0, hp_v B o), (1, .int a1), (2, .int v2)]) dX7_lay_95 (rfl : 95 + 3 = 98) rfl (by first | rfl | (congr 1)) (by decide) rfl (fun ls hl => ?_)
                refine hp_goto E (tgt := 21) dX7_lay_98 (by decide) ?_
                exact hK21 _ _ _ _ _ h (lv_sub hl [1, 2, 3, 0] rfl) hR ms21
              have b91 : ∀ (v3 : Int32) (t0 : Nat) (t1 : Int32) (t2 : Nat) (t3 : Int32) (t4 : Int32) (t5 : Int32) (S : hp_St) (H : Heap) (locs : List Loc) (ls : Array Slot), wb_X7_lay_91 o a1 v2 v3 t0 t1 t2 t3 t4 t5 S K14 K21 Q → lv_has ls 4 [(0, hp_v B o), (1, .int a1), (2, .int v2), (3, .int v3)] → hp_S B D s0 S H locs → hp_mono Si S → hp_mono Sa14 S → hp_mono Sa21 S → W p l e ({ frames := 3, cells := 0, slots := 0, locals := 192 } : Room) s m args below meth c H locs 0 0 (MQ below (hp_Qv B D s0 (fun S' => hp_mono Si S' ∧ Q S')) args s 0 0 (fun q => B < q)) (F0 m 91 ls [.int t5, .int t4, .int t3, hp_v B t2, .int t1, hp_v B t0]) := by
                intro v3 t0 t1 t2 t3 t4 t5 S H locs ls h hl hR hm ms14 ms21
                unfold wb_X7_lay_91 at h
                obtain ⟨hc9101, h⟩ := h
                refine hp_fi (hp_rV E hR hl (m_X7_lived G _ _ _ _ _ _ hc9101 h) hc9101 (ci := 6) rfl rfl q1645 q1647 qs62 q82 q1648 nf_X7_lived ⟨Nat.le_of_ble_eq_true rfl, Nat.le_of_ble_eq_true rfl⟩ (rest := [.int t1, hp_v B t0]) rfl (Nat.le_of_ble_eq_true rfl) dX7_lay_91 ⟨Nat.le_of_ble_eq_true rfl, Nat.le_of_ble_eq_true rfl⟩) hR (rfl : 91 + 3 = 94) (fun z9102 Sx H locs hq hR => ?_)
                obtain ⟨hSx, h⟩ := hq
                rw [hSx] at hR
                exact b94 _ _ _ _ _ _ _ _ h hl hR hm ms14 ms21
              have b41 : ∀ (v3 : Int32) (S : hp_St) (H : Heap) (locs : List Loc) (ls : Array Slot), wb_X7_lay_41 o a1 v2 v3 S K14 K21 Q → lv_has ls 4 [(0, hp_v B o), (1, .int a1), (2, .int v2), (3, .int v3)] → hp_S B D s0 S H locs → hp_mono Si S → hp_mono Sa14 S → hp_mono Sa21 S → W p l e ({ frames := 3, cells := 0, slots := 0, locals := 192 } : Room) s m args below meth c H locs 0 0 (MQ below (hp_Qv B D s0 (fun S' => hp_mono Si S' ∧ Q S')) args s 0 0 (fun q => B < q)) (F0 m 41 ls []) := by
                intro v3 S H locs ls h hl hR hm ms14 ms21
                unfold wb_X7_lay_41 at h
                refine hp_aload_n E hl 0 rfl 0 rfl dX7_lay_41 (rfl : 41 + 1 = 42) ?_
                refine hp_getR E hR in_X7 (hp_mono.c hm hc0) rfl 51 (Nat.le_of_ble_eq_true rfl) rfl q1312 (fun _ h => h) dX7_lay_42 (rfl : 42 + 3 = 45) ?_
                refine hp_bipush E (10 : Int32) (by decide) dX7_lay_45 (rfl : 45 + 2 = 47) ?_
                refine hp_iload_n E hl 2 rfl 2 rfl dX7_lay_47 (rfl : 47 + 1 = 48) ?_
                refine hp_imul E dX7_lay_48 (rfl : 48 + 1 = 49) ?_
                refine hp_iload_n E hl 3 rfl 3 rfl dX7_lay_49 (rfl : 49 + 1 = 50) ?_
                refine hp_iadd E dX7_lay_50 (rfl : 50 + 1 = 51) ?_
                refine hp_iload_n E hl 1 rfl 1 rfl dX7_lay_51 (rfl : 51 + 1 = 52) ?_
                refine hp_if_ne E dX7_lay_52 (rfl : 52 + 3 = 55) (tgt := 69) (by decide) (fun hb => ?_) (fun hb => ?_)
                · have h := h.1 hb
                  refine hp_aload_n E hl 0 rfl 0 rfl dX7_lay_55 (rfl : 55 + 1 = 56) ?_
                  refine hp_getR E hR in_X7 (hp_mono.c hm hc0) rfl 21 (Nat.le_of_ble_eq_true rfl) rfl q1282 (fun _ h => h) dX7_lay_56 (rfl : 56 + 3 = 59) ?_
                  refine hp_bipush E (10 : Int32) (by decide) dX7_lay_59 (rfl : 59 + 2 = 61) ?_
                  refine hp_iload_n E hl 2 rfl 2 rfl dX7_lay_61 (rfl : 61 + 1 = 62) ?_
                  refine hp_imul E dX7_lay_62 (rfl : 62 + 1 = 63) ?_
                  refine hp_iload_n E hl 3 rfl 3 rfl dX7_lay_63 (rfl : 63 + 1 = 64) ?_
                  refine hp_iadd E dX7_lay_64 (rfl : 64 + 1 = 65) ?_
                  obtain ⟨hc4101, h⟩ := h
                  obtain ⟨hi4102, h⟩ := h
                  refine hp_iald E hR hc4101 hi4102 dX7_lay_65 (rfl : 65 + 1 = 66) ?_
                  refine hp_goto E (tgt := 94) dX7_lay_66 (by decide) ?_
                  exact b94 _ _ _ _ _ _ _ _ h hl hR hm ms14 ms21
                · have h := h.2 hb
                  refine hp_aload_n E hl 0 rfl 0 rfl dX7_lay_69 (rfl : 69 + 1 = 70) ?_
                  refine hp_iload_n E hl 2 rfl 2 rfl dX7_lay_70 (rfl : 70 + 1 = 71) ?_
                  refine hp_iload_n E hl 3 rfl 3 rfl dX7_lay_71 (rfl : 71 + 1 = 72) ?_
                  refine hp_iload_n E hl 1 rfl 1 rfl dX7_lay_72 (rfl : 72 + 1 = 73) ?_
                  refine hp_iconst E (1 : Int32) (by decide) dX7_lay_73 (rfl : 73 + 1 = 74) ?_
                  refine hp_icmp_ne E dX7_lay_74 (rfl : 74 + 3 = 77) (tgt := 81) (by decide) (fun hb => ?_) (fun hb => ?_)
                  · have h := h.1 hb
                    refine hp_iconst E (0 : Int32) (by decide) dX7_lay_77 (rfl : 77 + 1 = 78) ?_
                    refine hp_goto E (tgt := 91) dX7_lay_78 (by decide) ?_
                    exact b91 _ _ _ _ _ _ _ _ _ _ _ h hl hR hm ms14 ms21
                  · have h := h.2 hb
                    refine hp_iload_n E hl 1 rfl 1 rfl dX7_lay_81 (rfl : 81 + 1 = 82) ?_
                    refine hp_iconst E (2 : Int32) (by decide) dX7_lay_82 (rfl : 82 + 1 = 83) ?_
                    refine hp_icmp_ne E dX7_lay_83 (rfl : 83 + 3 = 86) (tgt := 90) (by decide) (fun hb => ?_) (fun hb => ?_)
                    · have h := h.1 hb
                      refine hp_iconst E (1 : Int32) (by decide) dX7_lay_86 (rfl : 86 + 1 = 87) ?_
                      refine hp_goto E (tgt := 91) dX7_lay_87 (by decide) ?_
                      exact b91 _ _ _ _ _ _ _ _ _ _ _ h hl hR hm ms14 ms21
                    · have h := h.2 hb
                      refine hp_iconst E (-1 : Int32) (by decide) dX7_lay_90 (rfl : 90 + 1 = 91) ?_
                      exact b91 _ _ _ _ _ _ _ _ _ _ _ h hl hR hm ms14 ms21
              unfold wb_X7_lay_21 at h
              refine hp_iload_n E hl 3 rfl 3 rfl dX7_lay_21 (rfl : 21 + 1 = 22) ?_
              refine hp_bipush E (10 : Int32) (by decide) dX7_lay_22 (rfl : 22 + 2 = 24) ?_
              refine hp_icmp_ge E dX7_lay_24 (rfl : 24 + 3 = 27) (tgt := 101) (by decide) (fun hb => ?_) (fun hb => ?_)
              · have h := h.1 hb
                refine hp_iload_n E hl 1 rfl 1 rfl dX7_lay_27 (rfl : 27 + 1 = 28) ?_
                refine hp_if_le E dX7_lay_28 (rfl : 28 + 3 = 31) (tgt := 41) (by decide) (fun hb => ?_) (fun hb => ?_)
                · have h := h.1 hb
                  exact b41 _ _ _ _ _ h hl hR hm ms14 ms21
                · have h := h.2 hb
                  refine hp_aload_n E hl 0 rfl 0 rfl dX7_lay_31 (rfl : 31 + 1 = 32) ?_
                  refine hp_iload_n E hl 2 rfl 2 rfl dX7_lay_32 (rfl : 32 + 1 = 33) ?_
                  refine hp_iload_n E hl 3 rfl 3 rfl dX7_lay_33 (rfl : 33 + 1 = 34) ?_
                  refine hp_aload_n E hl 0 rfl 0 rfl dX7_lay_34 (rfl : 34 + 1 = 35) ?_
                  refine hp_getI E hR in_X7 (hp_mono.c hm hc0) rfl 3 (Nat.le_of_ble_eq_true rfl) rfl q1264 (fun _ h => h) dX7_lay_35 (rfl : 35 + 3 = 38) ?_
                  refine hp_fv (hp_rV E hR hl (m_X7_years G _ _ _ _ _ _ (hp_mono.c hm hc0) h) (hp_mono.c hm hc0) (ci := 6) rfl rfl q1641 q1643 qs61 q82 q1644 nf_X7_years ⟨Nat.le_of_ble_eq_true rfl, Nat.le_of_ble_eq_true rfl⟩ (rest := []) rfl (Nat.le_of_ble_eq_true rfl) dX7_lay_38 ⟨Nat.le_of_ble_eq_true rfl, Nat.le_of_ble_eq_true rfl⟩) hR (rfl : 38 + 3 = 41) (fun S2101 H locs hq hR => ?_)
                  obtain ⟨hm2102, h⟩ := hq
                  have h := h hm2102
                  have hm := hp_mono.tr hm hm2102
                  have ms14 := hp_mono.tr ms14 hm2102
                  have ms21 := hp_mono.tr ms21 hm2102
                  exact b41 _ _ _ _ _ h hl hR hm ms14 ms21
              · have h := h.2 hb
                refine hp_iinc E hl (v2 + (1 : Int32)) 2 (lv' := [(0, hp_v B o), (1, .int a1), (3, .int v3)]) dX7_lay_101 (rfl : 101 + 3 = 104) rfl (by first | rfl | (congr 1)) (by decide) rfl (fun ls hl => ?_)
                refine hp_goto E (tgt := 14) dX7_lay_104 (by decide) ?_
                exact hK14 _ _ _ _ _ h (lv_sub hl [1, 2, 0] rfl) hR ms14
          exact key21 (μ21 v3 Sa21 + 1) v3 _ H locs ls (Nat.lt_succ_self _) hI hl hR hp_mono.rf
        unfold wb_X7_lay_14 at h
        refine hp_iload_n E hl 2 rfl 2 rfl dX7_lay_14 (rfl : 14 + 1 = 15) ?_
        refine hp_iconst E (4 : Int32) (by decide) dX7_lay_15 (rfl : 15 + 1 = 16) ?_
        refine hp_icmp_ge E dX7_lay_16 (rfl : 16 + 3 = 19) (tgt := 107) (by decide) (fun hb => ?_) (fun hb => ?_)
        · have h := h.1 hb
          refine hp_iconst E (0 : Int32) (by decide) dX7_lay_19 (rfl : 19 + 1 = 20) ?_
          refine hp_istore_n E hl 3 rfl (lv' := [(0, hp_v B o), (1, .int a1), (2, .int v2)]) dX7_lay_20 (rfl : 20 + 1 = 21) (by decide) rfl (fun ls hl => ?_)
          exact b21 _ _ _ _ _ _ h (lv_sub hl [1, 2, 3, 0] rfl) hR hm ms14
        · have h := h.2 hb
          exact hp_vret E hR ⟨hm, h⟩ (Nat.le_of_ble_eq_true rfl) (Nat.le_of_ble_eq_true rfl) dX7_lay_107
    exact key14 (μ14 v2 Sa14 + 1) v2 _ H locs ls (Nat.lt_succ_self _) hI hl hR hp_mono.rf
  have b12 : ∀ (S : hp_St) (H : Heap) (locs : List Loc) (ls : Array Slot), wb_X7_lay_12 o a1 S Q → lv_has ls 4 [(0, hp_v B o), (1, .int a1)] → hp_S B D s0 S H locs → hp_mono Si S → W p l e ({ frames := 3, cells := 0, slots := 0, locals := 192 } : Room) s m args below meth c H locs 0 0 (MQ below (hp_Qv B D s0 (fun S' => hp_mono Si S' ∧ Q S')) args s 0 0 (fun q => B < q)) (F0 m 12 ls []) := by
    intro S H locs ls h hl hR hm
    unfold wb_X7_lay_12 at h
    refine hp_iconst E (0 : Int32) (by decide) dX7_lay_12 (rfl : 12 + 1 = 13) ?_
    refine hp_istore_n E hl 2 rfl (lv' := [(0, hp_v B o), (1, .int a1)]) dX7_lay_13 (rfl : 13 + 1 = 14) (by decide) rfl (fun ls hl => ?_)
    exact b14 _ _ _ _ _ h (lv_sub hl [1, 2, 0] rfl) hR hm
  unfold wp_X7_lay at h
  refine hp_iload_n E hl 1 rfl 1 rfl dX7_lay_0 (rfl : 0 + 1 = 1) ?_
  refine hp_if_le E dX7_lay_1 (rfl : 1 + 3 = 4) (tgt := 12) (by decide) (fun hb => ?_) (fun hb => ?_)
  · have h := h.1 hb
    exact b12 _ _ _ _ h hl hR hm
  · have h := h.2 hb
    refine hp_aload_n E hl 0 rfl 0 rfl dX7_lay_4 (rfl : 4 + 1 = 5) ?_
    refine hp_aload_n E hl 0 rfl 0 rfl dX7_lay_5 (rfl : 5 + 1 = 6) ?_
    refine hp_getI E hR in_X7 hc0 rfl 3 (Nat.le_of_ble_eq_true rfl) rfl q1264 (fun _ h => h) dX7_lay_6 (rfl : 6 + 3 = 9) ?_
    refine hp_fv (hp_rV E hR hl (m_X7_know G _ _ _ _ hc0 h) hc0 (ci := 6) rfl rfl q1581 q1583 qs53 q82 q1584 nf_X7_know ⟨Nat.le_of_ble_eq_true rfl, Nat.le_of_ble_eq_true rfl⟩ (rest := []) rfl (Nat.le_of_ble_eq_true rfl) dX7_lay_9 ⟨Nat.le_of_ble_eq_true rfl, Nat.le_of_ble_eq_true rfl⟩) hR (rfl : 9 + 3 = 12) (fun S1 H locs hq hR => ?_)
    obtain ⟨hm2, h⟩ := hq
    have h := h hm2
    have hm := hp_mono.tr hm hm2
    exact b12 _ _ _ _ h hl hR hm
def wb_X7_groupOf_15 (a0 : Int32) (t0 : Int32) (S : hp_St) (Q : Int32 → Prop) : Prop := Q t0
def wp_X7_groupOf (a0 : Int32) (S : hp_St) (Q : Int32 → Prop) : Prop := (((a0 ≤ (99 : Int32)) → wb_X7_groupOf_15 a0 (a0 / (10 : Int32)) S Q) ∧ ((¬ (a0 ≤ (99 : Int32))) → wb_X7_groupOf_15 a0 (9 : Int32) S Q))
theorem nf_X7_groupOf : hp_nf yX7_groupOf 1 = true := by decide +kernel
set_option maxHeartbeats 4000000 in
theorem m_X7_groupOf {l : Launch} {B : Nat} {D : va_G} {s0 : State} {b0 : Nat} (G : hp_G l B D s0 b0) (a0 : Int32) (Si : hp_St) (Q : Int32 → Prop) (h : wp_X7_groupOf a0 Si Q) : hp_M l B D s0 yX7_groupOf cX7_groupOf 1 (some .int) 2 128 0 0 [.int a0] Si (hp_Qi B D s0 (fun r S' => S' = Si ∧ Q r)) := by
  refine hp_start G (by decide +kernel) rfl rfl (lv := [(0, .int a0)]) (by simp [lg_sl, hp_vc, hp_ci, hp_cj]) (by simp [lv_args, hp_vc, hp_ci, hp_cj]) ?_
  intro p e s m args below meth c E ls hl hR
  generalize hH : s.heap = H at hR ⊢
  generalize hLo : ([] : List Loc) = locs at hR ⊢
  have b15 : ∀ (t0 : Int32) (H : Heap) (locs : List Loc) (ls : Array Slot), wb_X7_groupOf_15 a0 t0 Si Q → lv_has ls 1 [] → hp_S B D s0 Si H locs → W p l e ({ frames := 2, cells := 0, slots := 0, locals := 128 } : Room) s m args below meth c H locs 0 0 (MQ below (hp_Qi B D s0 (fun r S' => S' = Si ∧ Q r)) args s 0 0 (fun q => B < q)) (F0 m 15 ls [.int t0]) := by
    intro t0 H locs ls h hl hR
    unfold wb_X7_groupOf_15 at h
    exact hp_iret E hR ⟨rfl, h⟩ (Nat.le_of_ble_eq_true rfl) (Nat.le_of_ble_eq_true rfl) dX7_groupOf_15
  unfold wp_X7_groupOf at h
  refine hp_iload_n E hl 0 rfl 0 rfl dX7_groupOf_0 (rfl : 0 + 1 = 1) ?_
  refine hp_bipush E (99 : Int32) (by decide) dX7_groupOf_1 (rfl : 1 + 2 = 3) ?_
  refine hp_icmp_le E dX7_groupOf_3 (rfl : 3 + 3 = 6) (tgt := 11) (by decide) (fun hb => ?_) (fun hb => ?_)
  · have h := h.1 hb
    refine hp_iload_n E hl 0 rfl 0 rfl dX7_groupOf_11 (rfl : 11 + 1 = 12) ?_
    refine hp_bipush E (10 : Int32) (by decide) dX7_groupOf_12 (rfl : 12 + 2 = 14) ?_
    refine hp_idiv E (by decide) dX7_groupOf_14 (rfl : 14 + 1 = 15) ?_
    exact b15 _ _ _ _ h (lv_sub hl [] rfl) hR
  · have h := h.2 hb
    refine hp_bipush E (9 : Int32) (by decide) dX7_groupOf_6 (rfl : 6 + 2 = 8) ?_
    refine hp_goto E (tgt := 15) dX7_groupOf_8 (by decide) ?_
    exact b15 _ _ _ _ h (lv_sub hl [] rfl) hR
def wp_X7_liveOf (o : Nat) (a1 : Int32) (a2 : Int32) (S : hp_St) (Q : Int32 → Prop) : Prop := (st_C S (st_R S o 6) = 50) ∧ (vp_in a1 (st_L S (st_R S o 6))) ∧ wp_X7_groupOf a2 S (fun z3 => (st_C S (st_R S o 51) = 50) ∧ (vp_in (((10 : Int32) * (st_I S (st_R S o 6) a1.toNatClampNeg)) + z3) (st_L S (st_R S o 51))) ∧ Q (st_I S (st_R S o 51) (((10 : Int32) * (st_I S (st_R S o 6) a1.toNatClampNeg)) + z3).toNatClampNeg))
theorem nf_X7_liveOf : hp_nf yX7_liveOf 2 = true := by decide +kernel
set_option maxHeartbeats 4000000 in
theorem m_X7_liveOf {l : Launch} {B : Nat} {D : va_G} {s0 : State} {b0 : Nat} (G : hp_G l B D s0 b0) (o : Nat) (a1 : Int32) (a2 : Int32) (Si : hp_St) (Q : Int32 → Prop) (hc0 : st_C Si o = 7) (h : wp_X7_liveOf o a1 a2 Si Q) : hp_M l B D s0 yX7_liveOf cX7_liveOf 3 (some .int) 3 192 0 0 [hp_v B o, .int a1, .int a2] Si (hp_Qi B D s0 (fun r S' => S' = Si ∧ Q r)) := by
  refine hp_start G (by decide +kernel) rfl rfl (lv := [(0, hp_v B o), (1, .int a1), (2, .int a2)]) (by simp [lg_sl, hp_vc, hp_ci, hp_cj]) (by simp [lv_args, hp_vc, hp_ci, hp_cj]) ?_
  intro p e s m args below meth c E ls hl hR
  unfold wp_X7_liveOf at h
  refine hp_aload_n E hl 0 rfl 0 rfl dX7_liveOf_0 (rfl : 0 + 1 = 1) ?_
  refine hp_getR E hR in_X7 hc0 rfl 51 (Nat.le_of_ble_eq_true rfl) rfl q1312 (fun _ h => h) dX7_liveOf_1 (rfl : 1 + 3 = 4) ?_
  refine hp_bipush E (10 : Int32) (by decide) dX7_liveOf_4 (rfl : 4 + 2 = 6) ?_
  refine hp_aload_n E hl 0 rfl 0 rfl dX7_liveOf_6 (rfl : 6 + 1 = 7) ?_
  refine hp_getR E hR in_X7 hc0 rfl 6 (Nat.le_of_ble_eq_true rfl) rfl q1267 (fun _ h => h) dX7_liveOf_7 (rfl : 7 + 3 = 10) ?_
  refine hp_iload_n E hl 1 rfl 1 rfl dX7_liveOf_10 (rfl : 10 + 1 = 11) ?_
  obtain ⟨hc1, h⟩ := h
  obtain ⟨hi2, h⟩ := h
  refine hp_iald E hR hc1 hi2 dX7_liveOf_11 (rfl : 11 + 1 = 12) ?_
  refine hp_imul E dX7_liveOf_12 (rfl : 12 + 1 = 13) ?_
  refine hp_iload_n E hl 2 rfl 2 rfl dX7_liveOf_13 (rfl : 13 + 1 = 14) ?_
  refine hp_fi (hp_rS E hR hl (m_X7_groupOf G _ _ _ h) q1669 q1670 q82 q1671 nf_X7_groupOf ⟨Nat.le_of_ble_eq_true rfl, Nat.le_of_ble_eq_true rfl⟩ (rest := [.int ((10 : Int32) * (st_I Si (st_R Si o 6) a1.toNatClampNeg)), hp_v B (st_R Si o 51)]) rfl (Nat.le_of_ble_eq_true rfl) dX7_liveOf_14 ⟨Nat.le_of_ble_eq_true rfl, Nat.le_of_ble_eq_true rfl⟩) hR (rfl : 14 + 3 = 17) (fun z3 Sx H locs hq hR => ?_)
  obtain ⟨hSx, h⟩ := hq
  rw [hSx] at hR
  refine hp_iadd E dX7_liveOf_17 (rfl : 17 + 1 = 18) ?_
  obtain ⟨hc4, h⟩ := h
  obtain ⟨hi5, h⟩ := h
  refine hp_iald E hR hc4 hi5 dX7_liveOf_18 (rfl : 18 + 1 = 19) ?_
  exact hp_iret E hR ⟨rfl, h⟩ (Nat.le_of_ble_eq_true rfl) (Nat.le_of_ble_eq_true rfl) dX7_liveOf_19
def wp_X7_yearBack (o : Nat) (a1 : Int32) (a2 : Int32) (S : hp_St) (Q : Int32 → Prop) : Prop := (st_C S (st_R S o 40) = 50) ∧ (vp_in (2 : Int32) (st_L S (st_R S o 40))) ∧ (vp_in (2 : Int32) (st_L S (st_R S o 40))) ∧ (¬ ((st_I S (st_R S o 40) (2 : Int32).toNatClampNeg) + (1 : Int32)) = 0) ∧ Q ((((((1000 : Int32) + a1) * a2) / (1000 : Int32)) * (st_I S (st_R S o 40) (2 : Int32).toNatClampNeg)) / ((st_I S (st_R S o 40) (2 : Int32).toNatClampNeg) + (1 : Int32)))
theorem nf_X7_yearBack : hp_nf yX7_yearBack 2 = true := by decide +kernel
set_option maxHeartbeats 4000000 in
theorem m_X7_yearBack {l : Launch} {B : Nat} {D : va_G} {s0 : State} {b0 : Nat} (G : hp_G l B D s0 b0) (o : Nat) (a1 : Int32) (a2 : Int32) (Si : hp_St) (Q : Int32 → Prop) (hc0 : st_C Si o = 7) (h : wp_X7_yearBack o a1 a2 Si Q) : hp_M l B D s0 yX7_yearBack cX7_yearBack 3 (some .int) 2 128 0 0 [hp_v B o, .int a1, .int a2] Si (hp_Qi B D s0 (fun r S' => S' = Si ∧ Q r)) := by
  refine hp_start G (by decide +kernel) rfl rfl (lv := [(0, hp_v B o), (1, .int a1), (2, .int a2)]) (by simp [lg_sl, hp_vc, hp_ci, hp_cj]) (by simp [lv_args, hp_vc, hp_ci, hp_cj]) ?_
  intro p e s m args below meth c E ls hl hR
  unfold wp_X7_yearBack at h
  refine hp_sipush E (1000 : Int32) (by decide) dX7_yearBack_0 (rfl : 0 + 3 = 3) ?_
  refine hp_iload_n E hl 1 rfl 1 rfl dX7_yearBack_3 (rfl : 3 + 1 = 4) ?_
  refine hp_iadd E dX7_yearBack_4 (rfl : 4 + 1 = 5) ?_
  refine hp_iload_n E hl 2 rfl 2 rfl dX7_yearBack_5 (rfl : 5 + 1 = 6) ?_
  refine hp_imul E dX7_yearBack_6 (rfl : 6 + 1 = 7) ?_
  refine hp_sipush E (1000 : Int32) (by decide) dX7_yearBack_7 (rfl : 7 + 3 = 10) ?_
  refine hp_idiv E (by decide) dX7_yearBack_10 (rfl : 10 + 1 = 11) ?_
  refine hp_aload_n E hl 0 rfl 0 rfl dX7_yearBack_11 (rfl : 11 + 1 = 12) ?_
  refine hp_getR E hR in_X7 hc0 rfl 40 (Nat.le_of_ble_eq_true rfl) rfl q1301 (fun _ h => h) dX7_yearBack_12 (rfl : 12 + 3 = 15) ?_
  refine hp_iconst E (2 : Int32) (by decide) dX7_yearBack_15 (rfl : 15 + 1 = 16) ?_
  obtain ⟨hc1, h⟩ := h
  obtain ⟨hi2, h⟩ := h
  refine hp_iald E hR hc1 hi2 dX7_yearBack_16 (rfl : 16 + 1 = 17) ?_
  refine hp_imul E dX7_yearBack_17 (rfl : 17 + 1 = 18) ?_
  refine hp_aload_n E hl 0 rfl 0 rfl dX7_yearBack_18 (rfl : 18 + 1 = 19) ?_
  refine hp_getR E hR in_X7 hc0 rfl 40 (Nat.le_of_ble_eq_true rfl) rfl q1301 (fun _ h => h) dX7_yearBack_19 (rfl : 19 + 3 = 22) ?_
  refine hp_iconst E (2 : Int32) (by decide) dX7_yearBack_22 (rfl : 22 + 1 = 23) ?_
  obtain ⟨hi3, h⟩ := h
  refine hp_iald E hR hc1 hi3 dX7_yearBack_23 (rfl : 23 + 1 = 24) ?_
  refine hp_iconst E (1 : Int32) (by decide) dX7_yearBack_24 (rfl : 24 + 1 = 25) ?_
  refine hp_iadd E dX7_yearBack_25 (rfl : 25 + 1 = 26) ?_
  obtain ⟨hz4, h⟩ := h
  refine hp_idiv E hz4 dX7_yearBack_26 (rfl : 26 + 1 = 27) ?_
  exact hp_iret E hR ⟨rfl, h⟩ (Nat.le_of_ble_eq_true rfl) (Nat.le_of_ble_eq_true rfl) dX7_yearBack_27
def wb_X7_worthOf_5 (o : Nat) (a1 : Int32) (v2 : Int32) (v3 : Int32) (S : hp_St) (K5 : Int32 → Int32 → Prop) (Q : Int32 → Prop) : Prop := wp_X7_ageIn o a1 (st_I S o 3) S (fun z501 => (((v3 < z501) → Q v2) ∧ ((¬ (v3 < z501)) → wp_X7_liveOf o a1 v3 S (fun z502 => wp_X7_yearBack o v2 z502 S (fun z503 => K5 z503 (v3 + (-1 : Int32)))))))
def wl_X7_worthOf_5 (o : Nat) (a1 : Int32) (v2 : Int32) (v3 : Int32) (S : hp_St) (Q : Int32 → Prop) : Prop := ∃ (I : Int32 → Int32 → Prop) (μ : Int32 → Int32 → Nat), I v2 v3 ∧ ∀ (v2 : Int32) (v3 : Int32), I v2 v3 → wb_X7_worthOf_5 o a1 v2 v3 S (fun v2' v3' => I v2' v3' ∧ μ v2' v3' < μ v2 v3) Q
def wp_X7_worthOf (o : Nat) (a1 : Int32) (S : hp_St) (Q : Int32 → Prop) : Prop := wl_X7_worthOf_5 o a1 (0 : Int32) (99 : Int32) S Q
theorem nf_X7_worthOf : hp_nf yX7_worthOf 1 = true := by decide +kernel
set_option maxHeartbeats 4000000 in
theorem m_X7_worthOf {l : Launch} {B : Nat} {D : va_G} {s0 : State} {b0 : Nat} (G : hp_G l B D s0 b0) (o : Nat) (a1 : Int32) (Si : hp_St) (Q : Int32 → Prop) (hc0 : st_C Si o = 7) (h : wp_X7_worthOf o a1 Si Q) : hp_M l B D s0 yX7_worthOf cX7_worthOf 4 (some .int) 4 256 0 0 [hp_v B o, .int a1] Si (hp_Qi B D s0 (fun r S' => S' = Si ∧ Q r)) := by
  refine hp_start G (by decide +kernel) rfl rfl (lv := [(0, hp_v B o), (1, .int a1)]) (by simp [lg_sl, hp_vc, hp_ci, hp_cj]) (by simp [lv_args, hp_vc, hp_ci, hp_cj]) ?_
  intro p e s m args below meth c E ls hl hR
  generalize hH : s.heap = H at hR ⊢
  generalize hLo : ([] : List Loc) = locs at hR ⊢
  have b5 : ∀ (v2 : Int32) (v3 : Int32) (H : Heap) (locs : List Loc) (ls : Array Slot), wl_X7_worthOf_5 o a1 v2 v3 Si Q → lv_has ls 4 [(0, hp_v B o), (1, .int a1), (2, .int v2), (3, .int v3)] → hp_S B D s0 Si H locs → W p l e ({ frames := 4, cells := 0, slots := 0, locals := 256 } : Room) s m args below meth c H locs 0 0 (MQ below (hp_Qi B D s0 (fun r S' => S' = Si ∧ Q r)) args s 0 0 (fun q => B < q)) (F0 m 5 ls []) := by
    intro v2 v3 H locs ls h hl hR
    obtain ⟨I5, μ5, hI, hst⟩ := h
    have key5 : ∀ (N : Nat) (v2 : Int32) (v3 : Int32) (H : Heap) (locs : List Loc) (ls : Array Slot), μ5 v2 v3 < N → I5 v2 v3 → lv_has ls 4 [(0, hp_v B o), (1, .int a1), (2, .int v2), (3, .int v3)] → hp_S B D s0 Si H locs → W p l e ({ frames := 4, cells := 0, slots := 0, locals := 256 } : Room) s m args below meth c H locs 0 0 (MQ below (hp_Qi B D s0 (fun r S' => S' = Si ∧ Q r)) args s 0 0 (fun q => B < q)) (F0 m 5 ls []) := by
      intro N
      induction N with
      | zero =>
        intro v2 v3 H locs ls hN
        exact absurd hN (Nat.not_lt_zero _)
      | succ N ih5 =>
        intro v2 v3 H locs ls hN hI hl hR
        have h := hst v2 v3 hI
        obtain ⟨K5, hKe5⟩ : ∃ K : Int32 → Int32 → Prop, K = (fun v2' v3' => I5 v2' v3' ∧ μ5 v2' v3' < μ5 v2 v3) := ⟨_, rfl⟩
        rw [← hKe5] at h
        have hK5 : ∀ (v2' : Int32) (v3' : Int32) (H : Heap) (locs : List Loc) (ls : Array Slot), K5 v2' v3' → lv_has ls 4 [(0, hp_v B o), (1, .int a1), (2, .int (v2')), (3, .int (v3'))] → hp_S B D s0 Si H locs → W p l e ({ frames := 4, cells := 0, slots := 0, locals := 256 } : Room) s m args below meth c H locs 0 0 (MQ below (hp_Qi B D s0 (fun r S' => S' = Si ∧ Q r)) args s 0 0 (fun q => B < q)) (F0 m 5 ls []) := by
          intro v2' v3' H locs ls hI hl hR
          rw [hKe5] at hI
          exact ih5 v2' v3' H locs ls (Nat.lt_of_lt_of_le hI.2 (Nat.le_of_lt_succ hN)) hI.1 hl hR
        unfold wb_X7_worthOf_5 at h
        refine hp_iload_n E hl 3 rfl 3 rfl dX7_worthOf_5 (rfl : 5 + 1 = 6) ?_
        refine hp_aload_n E hl 0 rfl 0 rfl dX7_worthOf_6 (rfl : 6 + 1 = 7) ?_
        refine hp_iload_n E hl 1 rfl 1 rfl dX7_worthOf_7 (rfl : 7 + 1 = 8) ?_
        refine hp_aload_n E hl 0 rfl 0 rfl dX7_worthOf_8 (rfl : 8 + 1 = 9) ?_
        refine hp_getI E hR in_X7 hc0 rfl 3 (Nat.le_of_ble_eq_true rfl) rfl q1264 (fun _ h => h) dX7_worthOf_9 (rfl : 9 + 3 = 12) ?_
        refine hp_fi (hp_rV E hR hl (m_X7_ageIn G _ _ _ _ _ hc0 h) hc0 (ci := 6) rfl rfl q1527 q1529 qs47 q82 q1530 nf_X7_ageIn ⟨Nat.le_of_ble_eq_true rfl, Nat.le_of_ble_eq_true rfl⟩ (rest := [.int v3]) rfl (Nat.le_of_ble_eq_true rfl) dX7_worthOf_12 ⟨Nat.le_of_ble_eq_true rfl, Nat.le_of_ble_eq_true rfl⟩) hR (rfl : 12 + 3 = 15) (fun z501 Sx H locs hq hR => ?_)
        obtain ⟨hSx, h⟩ := hq
        rw [hSx] at hR
        refine hp_icmp_lt E dX7_worthOf_15 (rfl : 15 + 3 = 18) (tgt := 36) (by decide) (fun hb => ?_) (fun hb => ?_)
        · have h := h.1 hb
          refine hp_iload_n E hl 2 rfl 2 rfl dX7_worthOf_36 (rfl : 36 + 1 = 37) ?_
          exact hp_iret E hR ⟨rfl, h⟩ (Nat.le_of_ble_eq_true rfl) (Nat.le_of_ble_eq_true rfl) dX7_worthOf_37
        · have h := h.2 hb
          refine hp_aload_n E hl 0 rfl 0 rfl dX7_worthOf_18 (rfl : 18 + 1 = 19) ?_
          refine hp_iload_n E hl 2 rfl 2 rfl dX7_worthOf_19 (rfl : 19 + 1 = 20) ?_
          refine hp_aload_n E hl 0 rfl 0 rfl dX7_worthOf_20 (rfl : 20 + 1 = 21) ?_
          refine hp_iload_n E hl 1 rfl 1 rfl dX7_worthOf_21 (rfl : 21 + 1 = 22) ?_
          refine hp_iload_n E hl 3 rfl 3 rfl dX7_worthOf_22 (rfl : 22 + 1 = 23) ?_
          refine hp_fi (hp_rV E hR hl (m_X7_liveOf G _ _ _ _ _ hc0 h) hc0 (ci := 6) rfl rfl q1665 q1667 qs66 q82 q1668 nf_X7_liveOf ⟨Nat.le_of_ble_eq_true rfl, Nat.le_of_ble_eq_true rfl⟩ (rest := [.int v2, hp_v B o]) rfl (Nat.le_of_ble_eq_true rfl) dX7_worthOf_23 ⟨Nat.le_of_ble_eq_true rfl, Nat.le_of_ble_eq_true rfl⟩) hR (rfl : 23 + 3 = 26) (fun z502 Sx H locs hq hR => ?_)
          obtain ⟨hSx, h⟩ := hq
          rw [hSx] at hR
          refine hp_fi (hp_rV E hR hl (m_X7_yearBack G _ _ _ _ _ hc0 h) hc0 (ci := 6) rfl rfl q1672 q1674 qs67 q82 q1675 nf_X7_yearBack ⟨Nat.le_of_ble_eq_true rfl, Nat.le_of_ble_eq_true rfl⟩ (rest := []) rfl (Nat.le_of_ble_eq_true rfl) dX7_worthOf_26 ⟨Nat.le_of_ble_eq_true rfl, Nat.le_of_ble_eq_true rfl⟩) hR (rfl : 26 + 3 = 29) (fun z503 Sx H locs hq hR => ?_)
          obtain ⟨hSx, h⟩ := hq
          rw [hSx] at hR
          refine hp_istore_n E hl 2 rfl (lv' := [(0, hp_v B o), (1, .int a1), (3, .int v3)]) dX7_worthOf_29 (rfl : 29 + 1 = 30) (by decide) rfl (fun ls hl => ?_)
          refine hp_iinc E hl (v3 + (-1 : Int32)) 3 (lv' := [(2, .int z503), (0, hp_v B o), (1, .int a1)]) dX7_worthOf_30 (rfl : 30 + 3 = 33) rfl (by first | rfl | (congr 1)) (by decide) rfl (fun ls hl => ?_)
          refine hp_goto E (tgt := 5) dX7_worthOf_33 (by decide) ?_
          exact hK5 _ _ _ _ _ h (lv_sub hl [2, 3, 1, 0] rfl) hR
    exact key5 (μ5 v2 v3 + 1) v2 v3 H locs ls (Nat.lt_succ_self _) hI hl hR
  unfold wp_X7_worthOf at h
  refine hp_iconst E (0 : Int32) (by decide) dX7_worthOf_0 (rfl : 0 + 1 = 1) ?_
  refine hp_istore_n E hl 2 rfl (lv' := [(0, hp_v B o), (1, .int a1)]) dX7_worthOf_1 (rfl : 1 + 1 = 2) (by decide) rfl (fun ls hl => ?_)
  refine hp_bipush E (99 : Int32) (by decide) dX7_worthOf_2 (rfl : 2 + 2 = 4) ?_
  refine hp_istore_n E hl 3 rfl (lv' := [(2, .int (0 : Int32)), (0, hp_v B o), (1, .int a1)]) dX7_worthOf_4 (rfl : 4 + 1 = 5) (by decide) rfl (fun ls hl => ?_)
  exact b5 _ _ _ _ _ h (lv_sub hl [2, 3, 1, 0] rfl) hR
def wb_X7_bothOf_41 (o : Nat) (a1 : Int32) (a2 : Int32) (v3 : Int32) (v4 : Int32) (v5 : Int32) (v6 : Int32) (S : hp_St) (K41 : Int32 → Int32 → Prop) (Q : Int32 → Prop) : Prop := (((v6 < 0) → Q v5) ∧ ((¬ (v6 < 0)) → wp_X7_liveOf o a1 (v3 + v6) S (fun z4101 => wp_X7_liveOf o a2 (v4 + v6) S (fun z4102 => wp_X7_yearBack o v5 ((z4101 * z4102) / (1000 : Int32)) S (fun z4103 => K41 z4103 (v6 + (-1 : Int32)))))))
def wl_X7_bothOf_41 (o : Nat) (a1 : Int32) (a2 : Int32) (v3 : Int32) (v4 : Int32) (v5 : Int32) (v6 : Int32) (S : hp_St) (Q : Int32 → Prop) : Prop := ∃ (I : Int32 → Int32 → Prop) (μ : Int32 → Int32 → Nat), I v5 v6 ∧ ∀ (v5 : Int32) (v6 : Int32), I v5 v6 → wb_X7_bothOf_41 o a1 a2 v3 v4 v5 v6 S (fun v5' v6' => I v5' v6' ∧ μ v5' v6' < μ v5 v6) Q
def wb_X7_bothOf_38 (o : Nat) (a1 : Int32) (a2 : Int32) (v3 : Int32) (v4 : Int32) (v5 : Int32) (t0 : Int32) (t1 : Int32) (S : hp_St) (Q : Int32 → Prop) : Prop := wl_X7_bothOf_41 o a1 a2 v3 v4 v5 (t0 - t1) S Q
def wp_X7_bothOf (o : Nat) (a1 : Int32) (a2 : Int32) (S : hp_St) (Q : Int32 → Prop) : Prop := wp_X7_ageIn o a1 (st_I S o 3) S (fun z1 => wp_X7_ageIn o a2 (st_I S o 3) S (fun z2 => (((z1 ≤ z2) → wb_X7_bothOf_38 o a1 a2 z1 z2 (0 : Int32) (99 : Int32) z2 S Q) ∧ ((¬ (z1 ≤ z2)) → wb_X7_bothOf_38 o a1 a2 z1 z2 (0 : Int32) (99 : Int32) z1 S Q))))
theorem nf_X7_bothOf : hp_nf yX7_bothOf 2 = true := by decide +kernel
set_option maxHeartbeats 4000000 in
theorem m_X7_bothOf {l : Launch} {B : Nat} {D : va_G} {s0 : State} {b0 : Nat} (G : hp_G l B D s0 b0) (o : Nat) (a1 : Int32) (a2 : Int32) (Si : hp_St) (Q : Int32 → Prop) (hc0 : st_C Si o = 7) (h : wp_X7_bothOf o a1 a2 Si Q) : hp_M l B D s0 yX7_bothOf cX7_bothOf 7 (some .int) 4 256 0 0 [hp_v B o, .int a1, .int a2] Si (hp_Qi B D s0 (fun r S' => S' = Si ∧ Q r)) := by
  refine hp_start G (by decide +kernel) rfl rfl (lv := [(0, hp_v B o), (1, .int a1), (2, .int a2)]) (by simp [lg_sl, hp_vc, hp_ci, hp_cj]) (by simp [lv_args, hp_vc, hp_ci, hp_cj]) ?_
  intro p e s m args below meth c E ls hl hR
  generalize hH : s.heap = H at hR ⊢
  generalize hLo : ([] : List Loc) = locs at hR ⊢
  have b41 : ∀ (v3 : Int32) (v4 : Int32) (v5 : Int32) (v6 : Int32) (H : Heap) (locs : List Loc) (ls : Array Slot), wl_X7_bothOf_41 o a1 a2 v3 v4 v5 v6 Si Q → lv_has ls 7 [(0, hp_v B o), (1, .int a1), (2, .int a2), (3, .int v3), (4, .int v4), (5, .int v5), (6, .int v6)] → hp_S B D s0 Si H locs → W p l e ({ frames := 4, cells := 0, slots := 0, locals := 256 } : Room) s m args below meth c H locs 0 0 (MQ below (hp_Qi B D s0 (fun r S' => S' = Si ∧ Q r)) args s 0 0 (fun q => B < q)) (F0 m 41 ls []) := by
    intro v3 v4 v5 v6 H locs ls h hl hR
    obtain ⟨I41, μ41, hI, hst⟩ := h
    have key41 : ∀ (N : Nat) (v5 : Int32) (v6 : Int32) (H : Heap) (locs : List Loc) (ls : Array Slot), μ41 v5 v6 < N → I41 v5 v6 → lv_has ls 7 [(0, hp_v B o), (1, .int a1), (2, .int a2), (3, .int v3), (4, .int v4), (5, .int v5), (6, .int v6)] → hp_S B D s0 Si H locs → W p l e ({ frames := 4, cells := 0, slots := 0, locals := 256 } : Room) s m args below meth c H locs 0 0 (MQ below (hp_Qi B D s0 (fun r S' => S' = Si ∧ Q r)) args s 0 0 (fun q => B < q)) (F0 m 41 ls []) := by
      intro N
      induction N with
      | zero =>
        intro v5 v6 H locs ls hN
        exact absurd hN (Nat.not_lt_zero _)
      | succ N ih41 =>
        intro v5 v6 H locs ls hN hI hl hR
        have h := hst v5 v6 hI
        obtain ⟨K41, hKe41⟩ : ∃ K : Int32 → Int32 → Prop, K = (fun v5' v6' => I41 v5' v6' ∧ μ41 v5' v6' < μ41 v5 v6) := ⟨_, rfl⟩
        rw [← hKe41] at h
        have hK41 : ∀ (v5' : Int32) (v6' : Int32) (H : Heap) (locs : List Loc) (ls : Array Slot), K41 v5' v6' → lv_has ls 7 [(0, hp_v B o), (1, .int a1), (2, .int a2), (3, .int v3), (4, .int v4), (5, .int (v5')), (6, .int (v6'))] → hp_S B D s0 Si H locs → W p l e ({ frames := 4, cells := 0, slots := 0, locals := 256 } : Room) s m args below meth c H locs 0 0 (MQ below (hp_Qi B D s0 (fun r S' => S' = Si ∧ Q r)) args s 0 0 (fun q => B < q)) (F0 m 41 ls []) := by
          intro v5' v6' H locs ls hI hl hR
          rw [hKe41] at hI
          exact ih41 v5' v6' H locs ls (Nat.lt_of_lt_of_le hI.2 (Nat.le_of_lt_succ hN)) hI.1 hl hR
        unfold wb_X7_bothOf_41 at h
        refine hp_iload E hl 6 rfl dX7_bothOf_41 (rfl : 41 + 2 = 43) ?_
        refine hp_if_lt E dX7_bothOf_43 (rfl : 43 + 3 = 46) (tgt := 84) (by decide) (fun hb => ?_) (fun hb => ?_)
        · have h := h.1 hb
          refine hp_iload E hl 5 rfl dX7_bothOf_84 (rfl : 84 + 2 = 86) ?_
          exact hp_iret E hR ⟨rfl, h⟩ (Nat.le_of_ble_eq_true rfl) (Nat.le_of_ble_eq_true rfl) dX7_bothOf_86
        · have h := h.2 hb
          refine hp_aload_n E hl 0 rfl 0 rfl dX7_bothOf_46 (rfl : 46 + 1 = 47) ?_
          refine hp_iload E hl 5 rfl dX7_bothOf_47 (rfl : 47 + 2 = 49) ?_
          refine hp_aload_n E hl 0 rfl 0 rfl dX7_bothOf_49 (rfl : 49 + 1 = 50) ?_
          refine hp_iload_n E hl 1 rfl 1 rfl dX7_bothOf_50 (rfl : 50 + 1 = 51) ?_
          refine hp_iload_n E hl 3 rfl 3 rfl dX7_bothOf_51 (rfl : 51 + 1 = 52) ?_
          refine hp_iload E hl 6 rfl dX7_bothOf_52 (rfl : 52 + 2 = 54) ?_
          refine hp_iadd E dX7_bothOf_54 (rfl : 54 + 1 = 55) ?_
          refine hp_fi (hp_rV E hR hl (m_X7_liveOf G _ _ _ _ _ hc0 h) hc0 (ci := 6) rfl rfl q1665 q1667 qs66 q82 q1668 nf_X7_liveOf ⟨Nat.le_of_ble_eq_true rfl, Nat.le_of_ble_eq_true rfl⟩ (rest := [.int v5, hp_v B o]) rfl (Nat.le_of_ble_eq_true rfl) dX7_bothOf_55 ⟨Nat.le_of_ble_eq_true rfl, Nat.le_of_ble_eq_true rfl⟩) hR (rfl : 55 + 3 = 58) (fun z4101 Sx H locs hq hR => ?_)
          obtain ⟨hSx, h⟩ := hq
          rw [hSx] at hR
          refine hp_aload_n E hl 0 rfl 0 rfl dX7_bothOf_58 (rfl : 58 + 1 = 59) ?_
          refine hp_iload_n E hl 2 rfl 2 rfl dX7_bothOf_59 (rfl : 59 + 1 = 60) ?_
          refine hp_iload E hl 4 rfl dX7_bothOf_60 (rfl : 60 + 2 = 62) ?_
          refine hp_iload E hl 6 rfl dX7_bothOf_62 (rfl : 62 + 2 = 64) ?_
          refine hp_iadd E dX7_bothOf_64 (rfl : 64 + 1 = 65) ?_
          refine hp_fi (hp_rV E hR hl (m_X7_liveOf G _ _ _ _ _ hc0 h) hc0 (ci := 6) rfl rfl q1665 q1667 qs66 q82 q1668 nf_X7_liveOf ⟨Nat.le_of_ble_eq_true rfl, Nat.le_of_ble_eq_true rfl⟩ (rest := [.int z4101, .int v5, hp_v B o]) rfl (Nat.le_of_ble_eq_true rfl) dX7_bothOf_65 ⟨Nat.le_of_ble_eq_true rfl, Nat.le_of_ble_eq_true rfl⟩) hR (rfl : 65 + 3 = 68) (fun z4102 Sx H locs hq hR => ?_)
          obtain ⟨hSx, h⟩ := hq
          rw [hSx] at hR
          refine hp_imul E dX7_bothOf_68 (rfl : 68 + 1 = 69) ?_
          refine hp_sipush E (1000 : Int32) (by decide) dX7_bothOf_69 (rfl : 69 + 3 = 72) ?_
          refine hp_idiv E (by decide) dX7_bothOf_72 (rfl : 72 + 1 = 73) ?_
          refine hp_fi (hp_rV E hR hl (m_X7_yearBack G _ _ _ _ _ hc0 h) hc0 (ci := 6) rfl rfl q1672 q1674 qs67 q82 q1675 nf_X7_yearBack ⟨Nat.le_of_ble_eq_true rfl, Nat.le_of_ble_eq_true rfl⟩ (rest := []) rfl (Nat.le_of_ble_eq_true rfl) dX7_bothOf_73 ⟨Nat.le_of_ble_eq_true rfl, Nat.le_of_ble_eq_true rfl⟩) hR (rfl : 73 + 3 = 76) (fun z4103 Sx H locs hq hR => ?_)
          obtain ⟨hSx, h⟩ := hq
          rw [hSx] at hR
          refine hp_istore E hl 5 (lv' := [(0, hp_v B o), (1, .int a1), (2, .int a2), (3, .int v3), (4, .int v4), (6, .int v6)]) dX7_bothOf_76 (rfl : 76 + 2 = 78) (by decide) rfl (fun ls hl => ?_)
          refine hp_iinc E hl (v6 + (-1 : Int32)) 6 (lv' := [(5, .int z4103), (0, hp_v B o), (1, .int a1), (2, .int a2), (3, .int v3), (4, .int v4)]) dX7_bothOf_78 (rfl : 78 + 3 = 81) rfl (by first | rfl | (congr 1)) (by decide) rfl (fun ls hl => ?_)
          refine hp_goto E (tgt := 41) dX7_bothOf_81 (by decide) ?_
          exact hK41 _ _ _ _ _ h (lv_sub hl [2, 3, 4, 5, 6, 1, 0] rfl) hR
    exact key41 (μ41 v5 v6 + 1) v5 v6 H locs ls (Nat.lt_succ_self _) hI hl hR
  have b38 : ∀ (v3 : Int32) (v4 : Int32) (v5 : Int32) (t0 : Int32) (t1 : Int32) (H : Heap) (locs : List Loc) (ls : Array Slot), wb_X7_bothOf_38 o a1 a2 v3 v4 v5 t0 t1 Si Q → lv_has ls 7 [(0, hp_v B o), (1, .int a1), (2, .int a2), (3, .int v3), (4, .int v4), (5, .int v5)] → hp_S B D s0 Si H locs → W p l e ({ frames := 4, cells := 0, slots := 0, locals := 256 } : Room) s m args below meth c H locs 0 0 (MQ below (hp_Qi B D s0 (fun r S' => S' = Si ∧ Q r)) args s 0 0 (fun q => B < q)) (F0 m 38 ls [.int t1, .int t0]) := by
    intro v3 v4 v5 t0 t1 H locs ls h hl hR
    unfold wb_X7_bothOf_38 at h
    refine hp_isub E dX7_bothOf_38 (rfl : 38 + 1 = 39) ?_
    refine hp_istore E hl 6 (lv' := [(0, hp_v B o), (1, .int a1), (2, .int a2), (3, .int v3), (4, .int v4), (5, .int v5)]) dX7_bothOf_39 (rfl : 39 + 2 = 41) (by decide) rfl (fun ls hl => ?_)
    exact b41 _ _ _ _ _ _ _ h (lv_sub hl [1, 2, 3, 4, 5, 6, 0] rfl) hR
  unfold wp_X7_bothOf at h
  refine hp_aload_n E hl 0 rfl 0 rfl dX7_bothOf_0 (rfl : 0 + 1 = 1) ?_
  refine hp_iload_n E hl 1 rfl 1 rfl dX7_bothOf_1 (rfl : 1 + 1 = 2) ?_
  refine hp_aload_n E hl 0 rfl 0 rfl dX7_bothOf_2 (rfl : 2 + 1 = 3) ?_
  refine hp_getI E hR in_X7 hc0 rfl 3 (Nat.le_of_ble_eq_true rfl) rfl q1264 (fun _ h => h) dX7_bothOf_3 (rfl : 3 + 3 = 6) ?_
  refine hp_fi (hp_rV E hR hl (m_X7_ageIn G _ _ _ _ _ hc0 h) hc0 (ci := 6) rfl rfl q1527 q1529 qs47 q82 q1530 nf_X7_ageIn ⟨Nat.le_of_ble_eq_true rfl, Nat.le_of_ble_eq_true rfl⟩ (rest := []) rfl (Nat.le_of_ble_eq_true rfl) dX7_bothOf_6 ⟨Nat.le_of_ble_eq_true rfl, Nat.le_of_ble_eq_true rfl⟩) hR (rfl : 6 + 3 = 9) (fun z1 Sx H locs hq hR => ?_)
  obtain ⟨hSx, h⟩ := hq
  rw [hSx] at hR
  refine hp_istore_n E hl 3 rfl (lv' := [(0, hp_v B o), (1, .int a1), (2, .int a2)]) dX7_bothOf_9 (rfl : 9 + 1 = 10) (by decide) rfl (fun ls hl => ?_)
  refine hp_aload_n E hl 0 rfl 1 rfl dX7_bothOf_10 (rfl : 10 + 1 = 11) ?_
  refine hp_iload_n E hl 2 rfl 3 rfl dX7_bothOf_11 (rfl : 11 + 1 = 12) ?_
  refine hp_aload_n E hl 0 rfl 1 rfl dX7_bothOf_12 (rfl : 12 + 1 = 13) ?_
  refine hp_getI E hR in_X7 hc0 rfl 3 (Nat.le_of_ble_eq_true rfl) rfl q1264 (fun _ h => h) dX7_bothOf_13 (rfl : 13 + 3 = 16) ?_
  refine hp_fi (hp_rV E hR hl (m_X7_ageIn G _ _ _ _ _ hc0 h) hc0 (ci := 6) rfl rfl q1527 q1529 qs47 q82 q1530 nf_X7_ageIn ⟨Nat.le_of_ble_eq_true rfl, Nat.le_of_ble_eq_true rfl⟩ (rest := []) rfl (Nat.le_of_ble_eq_true rfl) dX7_bothOf_16 ⟨Nat.le_of_ble_eq_true rfl, Nat.le_of_ble_eq_true rfl⟩) hR (rfl : 16 + 3 = 19) (fun z2 Sx H locs hq hR => ?_)
  obtain ⟨hSx, h⟩ := hq
  rw [hSx] at hR
  refine hp_istore E hl 4 (lv' := [(3, .int z1), (0, hp_v B o), (1, .int a1), (2, .int a2)]) dX7_bothOf_19 (rfl : 19 + 2 = 21) (by decide) rfl (fun ls hl => ?_)
  refine hp_iconst E (0 : Int32) (by decide) dX7_bothOf_21 (rfl : 21 + 1 = 22) ?_
  refine hp_istore E hl 5 (lv' := [(4, .int z2), (3, .int z1), (0, hp_v B o), (1, .int a1), (2, .int a2)]) dX7_bothOf_22 (rfl : 22 + 2 = 24) (by decide) rfl (fun ls hl => ?_)
  refine hp_bipush E (99 : Int32) (by decide) dX7_bothOf_24 (rfl : 24 + 2 = 26) ?_
  refine hp_iload_n E hl 3 rfl 2 rfl dX7_bothOf_26 (rfl : 26 + 1 = 27) ?_
  refine hp_iload E hl 1 rfl dX7_bothOf_27 (rfl : 27 + 2 = 29) ?_
  refine hp_icmp_le E dX7_bothOf_29 (rfl : 29 + 3 = 32) (tgt := 36) (by decide) (fun hb => ?_) (fun hb => ?_)
  · have h := h.1 hb
    refine hp_iload E hl 1 rfl dX7_bothOf_36 (rfl : 36 + 2 = 38) ?_
    exact b38 _ _ _ _ _ _ _ _ h (lv_sub hl [3, 4, 5, 2, 1, 0] rfl) hR
  · have h := h.2 hb
    refine hp_iload_n E hl 3 rfl 2 rfl dX7_bothOf_32 (rfl : 32 + 1 = 33) ?_
    refine hp_goto E (tgt := 38) dX7_bothOf_33 (by decide) ?_
    exact b38 _ _ _ _ _ _ _ _ h (lv_sub hl [3, 4, 5, 2, 1, 0] rfl) hR
def wb_X7_worthOn_51 (o : Nat) (a1 : Int32) (a2 : Int32) (t0 : Int32) (S : hp_St) (Q : Int32 → Prop) : Prop := Q t0
def wb_X7_worthOn_19 (o : Nat) (a1 : Int32) (a2 : Int32) (t0 : Int32) (S : hp_St) (Q : Int32 → Prop) : Prop := Q t0
def wp_X7_worthOn (o : Nat) (a1 : Int32) (a2 : Int32) (S : hp_St) (Q : Int32 → Prop) : Prop := (((a1 = (-1 : Int32)) → (((a2 = (-1 : Int32)) → wb_X7_worthOn_19 o a1 a2 (0 : Int32) S Q) ∧ ((¬ (a2 = (-1 : Int32))) → wp_X7_worthOf o a2 S (fun z1 => wb_X7_worthOn_19 o a1 a2 z1 S Q)))) ∧ ((¬ (a1 = (-1 : Int32))) → (((a2 = (-1 : Int32)) → wp_X7_worthOf o a1 S (fun z2 => wb_X7_worthOn_51 o a1 a2 z2 S Q)) ∧ ((¬ (a2 = (-1 : Int32))) → wp_X7_worthOf o a1 S (fun z3 => wp_X7_worthOf o a2 S (fun z4 => wp_X7_bothOf o a1 a2 S (fun z5 => wb_X7_worthOn_51 o a1 a2 ((z3 + z4) - z5) S Q)))))))
theorem nf_X7_worthOn : hp_nf yX7_worthOn 2 = true := by decide +kernel
set_option maxHeartbeats 4000000 in
theorem m_X7_worthOn {l : Launch} {B : Nat} {D : va_G} {s0 : State} {b0 : Nat} (G : hp_G l B D s0 b0) (o : Nat) (a1 : Int32) (a2 : Int32) (Si : hp_St) (Q : Int32 → Prop) (hc0 : st_C Si o = 7) (h : wp_X7_worthOn o a1 a2 Si Q) : hp_M l B D s0 yX7_worthOn cX7_worthOn 3 (some .int) 5 320 0 0 [hp_v B o, .int a1, .int a2] Si (hp_Qi B D s0 (fun r S' => S' = Si ∧ Q r)) := by
  refine hp_start G (by decide +kernel) rfl rfl (lv := [(0, hp_v B o), (1, .int a1), (2, .int a2)]) (by simp [lg_sl, hp_vc, hp_ci, hp_cj]) (by simp [lv_args, hp_vc, hp_ci, hp_cj]) ?_
  intro p e s m args below meth c E ls hl hR
  generalize hH : s.heap = H at hR ⊢
  generalize hLo : ([] : List Loc) = locs at hR ⊢
  have b51 : ∀ (t0 : Int32) (H : Heap) (locs : List Loc) (ls : Array Slot), wb_X7_worthOn_51 o a1 a2 t0 Si Q → lv_has ls 3 [] → hp_S B D s0 Si H locs → W p l e ({ frames := 5, cells := 0, slots := 0, locals := 320 } : Room) s m args below meth c H locs 0 0 (MQ below (hp_Qi B D s0 (fun r S' => S' = Si ∧ Q r)) args s 0 0 (fun q => B < q)) (F0 m 51 ls [.int t0]) := by
    intro t0 H locs ls h hl hR
    unfold wb_X7_worthOn_51 at h
    exact hp_iret E hR ⟨rfl, h⟩ (Nat.le_of_ble_eq_true rfl) (Nat.le_of_ble_eq_true rfl) dX7_worthOn_51
  have b19 : ∀ (t0 : Int32) (H : Heap) (locs : List Loc) (ls : Array Slot), wb_X7_worthOn_19 o a1 a2 t0 Si Q → lv_has ls 3 [] → hp_S B D s0 Si H locs → W p l e ({ frames := 5, cells := 0, slots := 0, locals := 320 } : Room) s m args below meth c H locs 0 0 (MQ below (hp_Qi B D s0 (fun r S' => S' = Si ∧ Q r)) args s 0 0 (fun q => B < q)) (F0 m 19 ls [.int t0]) := by
    intro t0 H locs ls h hl hR
    unfold wb_X7_worthOn_19 at h
    exact hp_iret E hR ⟨rfl, h⟩ (Nat.le_of_ble_eq_true rfl) (Nat.le_of_ble_eq_true rfl) dX7_worthOn_19
  unfold wp_X7_worthOn at h
  refine hp_iload_n E hl 1 rfl 1 rfl dX7_worthOn_0 (rfl : 0 + 1 = 1) ?_
  refine hp_iconst E (-1 : Int32) (by decide) dX7_worthOn_1 (rfl : 1 + 1 = 2) ?_
  refine hp_icmp_ne E dX7_worthOn_2 (rfl : 2 + 3 = 5) (tgt := 20) (by decide) (fun hb => ?_) (fun hb => ?_)
  · have h := h.1 hb
    refine hp_iload_n E hl 2 rfl 2 rfl dX7_worthOn_5 (rfl : 5 + 1 = 6) ?_
    refine hp_iconst E (-1 : Int32) (by decide) dX7_worthOn_6 (rfl : 6 + 1 = 7) ?_
    refine hp_icmp_ne E dX7_worthOn_7 (rfl : 7 + 3 = 10) (tgt := 14) (by decide) (fun hb => ?_) (fun hb => ?_)
    · have h := h.1 hb
      refine hp_iconst E (0 : Int32) (by decide) dX7_worthOn_10 (rfl : 10 + 1 = 11) ?_
      refine hp_goto E (tgt := 19) dX7_worthOn_11 (by decide) ?_
      exact b19 _ _ _ _ h (lv_sub hl [] rfl) hR
    · have h := h.2 hb
      refine hp_aload_n E hl 0 rfl 0 rfl dX7_worthOn_14 (rfl : 14 + 1 = 15) ?_
      refine hp_iload_n E hl 2 rfl 2 rfl dX7_worthOn_15 (rfl : 15 + 1 = 16) ?_
      refine hp_fi (hp_rV E hR hl (m_X7_worthOf G _ _ _ _ hc0 h) hc0 (ci := 6) rfl rfl q1661 q1663 qs65 q82 q1664 nf_X7_worthOf ⟨Nat.le_of_ble_eq_true rfl, Nat.le_of_ble_eq_true rfl⟩ (rest := []) rfl (Nat.le_of_ble_eq_true rfl) dX7_worthOn_16 ⟨Nat.le_of_ble_eq_true rfl, Nat.le_of_ble_eq_true rfl⟩) hR (rfl : 16 + 3 = 19) (fun z1 Sx H locs hq hR => ?_)
      obtain ⟨hSx, h⟩ := hq
      rw [hSx] at hR
      exact b19 _ _ _ _ h (lv_sub hl [] rfl) hR
  · have h := h.2 hb
    refine hp_iload_n E hl 2 rfl 2 rfl dX7_worthOn_20 (rfl : 20 + 1 = 21) ?_
    refine hp_iconst E (-1 : Int32) (by decide) dX7_worthOn_21 (rfl : 21 + 1 = 22) ?_
    refine hp_icmp_ne E dX7_worthOn_22 (rfl : 22 + 3 = 25) (tgt := 33) (by decide) (fun hb => ?_) (fun hb => ?_)
    · have h := h.1 hb
      refine hp_aload_n E hl 0 rfl 0 rfl dX7_worthOn_25 (rfl : 25 + 1 = 26) ?_
      refine hp_iload_n E hl 1 rfl 1 rfl dX7_worthOn_26 (rfl : 26 + 1 = 27) ?_
      refine hp_fi (hp_rV E hR hl (m_X7_worthOf G _ _ _ _ hc0 h) hc0 (ci := 6) rfl rfl q1661 q1663 qs65 q82 q1664 nf_X7_worthOf ⟨Nat.le_of_ble_eq_true rfl, Nat.le_of_ble_eq_true rfl⟩ (rest := []) rfl (Nat.le_of_ble_eq_true rfl) dX7_worthOn_27 ⟨Nat.le_of_ble_eq_true rfl, Nat.le_of_ble_eq_true rfl⟩) hR (rfl : 27 + 3 = 30) (fun z2 Sx H locs hq hR => ?_)
      obtain ⟨hSx, h⟩ := hq
      rw [hSx] at hR
      refine hp_goto E (tgt := 51) dX7_worthOn_30 (by decide) ?_
      exact b51 _ _ _ _ h (lv_sub hl [] rfl) hR
    · have h := h.2 hb
      refine hp_aload_n E hl 0 rfl 0 rfl dX7_worthOn_33 (rfl : 33 + 1 = 34) ?_
      refine hp_iload_n E hl 1 rfl 1 rfl dX7_worthOn_34 (rfl : 34 + 1 = 35) ?_
      refine hp_fi (hp_rV E hR hl (m_X7_worthOf G _ _ _ _ hc0 h) hc0 (ci := 6) rfl rfl q1661 q1663 qs65 q82 q1664 nf_X7_worthOf ⟨Nat.le_of_ble_eq_true rfl, Nat.le_of_ble_eq_true rfl⟩ (rest := []) rfl (Nat.le_of_ble_eq_true rfl) dX7_worthOn_35 ⟨Nat.le_of_ble_eq_true rfl, Nat.le_of_ble_eq_true rfl⟩) hR (rfl : 35 + 3 = 38) (fun z3 Sx H locs hq hR => ?_)
      obtain ⟨hSx, h⟩ := hq
      rw [hSx] at hR
      refine hp_aload_n E hl 0 rfl 0 rfl dX7_worthOn_38 (rfl : 38 + 1 = 39) ?_
      refine hp_iload_n E hl 2 rfl 2 rfl dX7_worthOn_39 (rfl : 39 + 1 = 40) ?_
      refine hp_fi (hp_rV E hR hl (m_X7_worthOf G _ _ _ _ hc0 h) hc0 (ci := 6) rfl rfl q1661 q1663 qs65 q82 q1664 nf_X7_worthOf ⟨Nat.le_of_ble_eq_true rfl, Nat.le_of_ble_eq_true rfl⟩ (rest := [.int z3]) rfl (Nat.le_of_ble_eq_true rfl) dX7_worthOn_40 ⟨Nat.le_of_ble_eq_true rfl, Nat.le_of_ble_eq_true rfl⟩) hR (rfl : 40 + 3 = 43) (fun z4 Sx H locs hq hR => ?_)
      obtain ⟨hSx, h⟩ := hq
      rw [hSx] at hR
      refine hp_iadd E dX7_worthOn_43 (rfl : 43 + 1 = 44) ?_
      refine hp_aload_n E hl 0 rfl 0 rfl dX7_worthOn_44 (rfl : 44 + 1 = 45) ?_
      refine hp_iload_n E hl 1 rfl 1 rfl dX7_worthOn_45 (rfl : 45 + 1 = 46) ?_
      refine hp_iload_n E hl 2 rfl 2 rfl dX7_worthOn_46 (rfl : 46 + 1 = 47) ?_
      refine hp_fi (hp_rV E hR hl (m_X7_bothOf G _ _ _ _ _ hc0 h) hc0 (ci := 6) rfl rfl q1676 q1678 qs68 q82 q1679 nf_X7_bothOf ⟨Nat.le_of_ble_eq_true rfl, Nat.le_of_ble_eq_true rfl⟩ (rest := [.int (z3 + z4)]) rfl (Nat.le_of_ble_eq_true rfl) dX7_worthOn_47 ⟨Nat.le_of_ble_eq_true rfl, Nat.le_of_ble_eq_true rfl⟩) hR (rfl : 47 + 3 = 50) (fun z5 Sx H locs hq hR => ?_)
      obtain ⟨hSx, h⟩ := hq
      rw [hSx] at hR
      refine hp_isub E dX7_worthOn_50 (rfl : 50 + 1 = 51) ?_
      exact b51 _ _ _ _ h (lv_sub hl [] rfl) hR
def wb_X7_worth_73 (o : Nat) (a1 : Int32) (a2 : Int32) (a3 : Int32) (S : hp_St) (Q : Int32 → hp_St → Prop) : Prop := Q (-1 : Int32) S
def wb_X7_worth_75 (o : Nat) (a1 : Int32) (a2 : Int32) (a3 : Int32) (S : hp_St) (Q : Int32 → hp_St → Prop) : Prop := wp_X7_lay o a3 S (fun S7501 => hp_mono S S7501 → wp_X7_worthOn o a1 a2 S7501 (fun z7503 => Q z7503 S7501))
def wb_X7_worth_31 (o : Nat) (a1 : Int32) (a2 : Int32) (a3 : Int32) (S : hp_St) (Q : Int32 → hp_St → Prop) : Prop := wp_X7_isIn a3 (0 : Int32) (3 : Int32) S (fun z3101 => (((z3101 = 0) → wb_X7_worth_73 o a1 a2 a3 S Q) ∧ ((¬ (z3101 = 0)) → wp_X7_ageIn o a1 (st_I S o 3) S (fun z3102 => (((z3102 ≤ (99 : Int32)) → (((a2 = (-1 : Int32)) → wb_X7_worth_75 o a1 a2 a3 S Q) ∧ ((¬ (a2 = (-1 : Int32))) → wp_X7_ageIn o a2 (st_I S o 3) S (fun z3103 => (((z3103 ≤ (99 : Int32)) → wb_X7_worth_75 o a1 a2 a3 S Q) ∧ ((¬ (z3103 ≤ (99 : Int32))) → wb_X7_worth_73 o a1 a2 a3 S Q)))))) ∧ ((¬ (z3102 ≤ (99 : Int32))) → wb_X7_worth_73 o a1 a2 a3 S Q))))))
def wp_X7_worth (o : Nat) (a1 : Int32) (a2 : Int32) (a3 : Int32) (S : hp_St) (Q : Int32 → hp_St → Prop) : Prop := (∀ S1, S1 = st_pI S o 2 (0 : Int32) → wp_X7_isLife o a1 S1 (fun z4 => (((z4 = 0) → wb_X7_worth_73 o a1 a2 a3 S1 Q) ∧ ((¬ (z4 = 0)) → (((a2 = (-1 : Int32)) → wb_X7_worth_31 o a1 a2 a3 S1 Q) ∧ ((¬ (a2 = (-1 : Int32))) → wp_X7_isLife o a2 S1 (fun z5 => (((z5 = 0) → wb_X7_worth_73 o a1 a2 a3 S1 Q) ∧ ((¬ (z5 = 0)) → (((a1 = a2) → wb_X7_worth_73 o a1 a2 a3 S1 Q) ∧ ((¬ (a1 = a2)) → wb_X7_worth_31 o a1 a2 a3 S1 Q)))))))))))
theorem nf_X7_worth : hp_nf yX7_worth 3 = true := by decide +kernel
set_option maxHeartbeats 4000000 in
theorem m_X7_worth {l : Launch} {B : Nat} {D : va_G} {s0 : State} {b0 : Nat} (G : hp_G l B D s0 b0) (o : Nat) (a1 : Int32) (a2 : Int32) (a3 : Int32) (Si : hp_St) (Q : Int32 → hp_St → Prop) (hc0 : st_C Si o = 7) (h : wp_X7_worth o a1 a2 a3 Si Q) : hp_M l B D s0 yX7_worth cX7_worth 4 (some .int) 6 384 0 0 [hp_v B o, .int a1, .int a2, .int a3] Si (hp_Qi B D s0 (fun r S' => hp_mono Si S' ∧ Q r S')) := by
  refine hp_start G (by decide +kernel) rfl rfl (lv := [(0, hp_v B o), (1, .int a1), (2, .int a2), (3, .int a3)]) (by simp [lg_sl, hp_vc, hp_ci, hp_cj]) (by simp [lv_args, hp_vc, hp_ci, hp_cj]) ?_
  intro p e s m args below meth c E ls hl hR
  have hm : hp_mono Si Si := hp_mono.rf
  generalize hH : s.heap = H at hR ⊢
  generalize hLo : ([] : List Loc) = locs at hR ⊢
  have b73 : ∀ (S : hp_St) (H : Heap) (locs : List Loc) (ls : Array Slot), wb_X7_worth_73 o a1 a2 a3 S Q → lv_has ls 4 [] → hp_S B D s0 S H locs → hp_mono Si S → W p l e ({ frames := 6, cells := 0, slots := 0, locals := 384 } : Room) s m args below meth c H locs 0 0 (MQ below (hp_Qi B D s0 (fun r S' => hp_mono Si S' ∧ Q r S')) args s 0 0 (fun q => B < q)) (F0 m 73 ls []) := by
    intro S H locs ls h hl hR hm
    unfold wb_X7_worth_73 at h
    refine hp_iconst E (-1 : Int32) (by decide) dX7_worth_73 (rfl : 73 + 1 = 74) ?_
    exact hp_iret E hR ⟨hm, h⟩ (Nat.le_of_ble_eq_true rfl) (Nat.le_of_ble_eq_true rfl) dX7_worth_74
  have b75 : ∀ (S : hp_St) (H : Heap) (locs : List Loc) (ls : Array Slot), wb_X7_worth_75 o a1 a2 a3 S Q → lv_has ls 4 [(0, hp_v B o), (1, .int a1), (2, .int a2), (3, .int a3)] → hp_S B D s0 S H locs → hp_mono Si S → W p l e ({ frames := 6, cells := 0, slots := 0, locals := 384 } : Room) s m args below meth c H locs 0 0 (MQ below (hp_Qi B D s0 (fun r S' => hp_mono Si S' ∧ Q r S')) args s 0 0 (fun q => B < q)) (F0 m 75 ls []) := by
    intro S H locs ls h hl hR hm
    unfold wb_X7_worth_75 at h
    refine hp_aload_n E hl 0 rfl 0 rfl dX7_worth_75 (rfl : 75 + 1 = 76) ?_
    refine hp_iload_n E hl 3 rfl 3 rfl dX7_worth_76 (rfl : 76 + 1 = 77) ?_
    refine hp_fv (hp_rV E hR hl (m_X7_lay G _ _ _ _ (hp_mono.c hm hc0) h) (hp_mono.c hm hc0) (ci := 6) rfl rfl q1653 q1655 qs63 q82 q1656 nf_X7_lay ⟨Nat.le_of_ble_eq_true rfl, Nat.le_of_ble_eq_true rfl⟩ (rest := []) rfl (Nat.le_of_ble_eq_true rfl) dX7_worth_77 ⟨Nat.le_of_ble_eq_true rfl, Nat.le_of_ble_eq_true rfl⟩) hR (rfl : 77 + 3 = 80) (fun S7501 H locs hq hR => ?_)
    obtain ⟨hm7502, h⟩ := hq
    have h := h hm7502
    have hm := hp_mono.tr hm hm7502
    refine hp_aload_n E hl 0 rfl 0 rfl dX7_worth_80 (rfl : 80 + 1 = 81) ?_
    refine hp_iload_n E hl 1 rfl 1 rfl dX7_worth_81 (rfl : 81 + 1 = 82) ?_
    refine hp_iload_n E hl 2 rfl 2 rfl dX7_worth_82 (rfl : 82 + 1 = 83) ?_
    refine hp_fi (hp_rV E hR hl (m_X7_worthOn G _ _ _ _ _ (hp_mono.c hm hc0) h) (hp_mono.c hm hc0) (ci := 6) rfl rfl q1657 q1659 qs64 q82 q1660 nf_X7_worthOn ⟨Nat.le_of_ble_eq_true rfl, Nat.le_of_ble_eq_true rfl⟩ (rest := []) rfl (Nat.le_of_ble_eq_true rfl) dX7_worth_83 ⟨Nat.le_of_ble_eq_true rfl, Nat.le_of_ble_eq_true rfl⟩) hR (rfl : 83 + 3 = 86) (fun z7503 Sx H locs hq hR => ?_)
    obtain ⟨hSx, h⟩ := hq
    rw [hSx] at hR
    exact hp_iret E hR ⟨hm, h⟩ (Nat.le_of_ble_eq_true rfl) (Nat.le_of_ble_eq_true rfl) dX7_worth_86
  have b31 : ∀ (S : hp_St) (H : Heap) (locs : List Loc) (ls : Array Slot), wb_X7_worth_31 o a1 a2 a3 S Q → lv_has ls 4 [(0, hp_v B o), (1, .int a1), (2, .int a2), (3, .int a3)] → hp_S B D s0 S H locs → hp_mono Si S → W p l e ({ frames := 6, cells := 0, slots := 0, locals := 384 } : Room) s m args below meth c H locs 0 0 (MQ below (hp_Qi B D s0 (fun r S' => hp_mono Si S' ∧ Q r S')) args s 0 0 (fun q => B < q)) (F0 m 31 ls []) := by
    intro S H locs ls h hl hR hm
    unfold wb_X7_worth_31 at h
    refine hp_iload_n E hl 3 rfl 3 rfl dX7_worth_31 (rfl : 31 + 1 = 32) ?_
    refine hp_iconst E (0 : Int32) (by decide) dX7_worth_32 (rfl : 32 + 1 = 33) ?_
    refine hp_iconst E (3 : Int32) (by decide) dX7_worth_33 (rfl : 33 + 1 = 34) ?_
    refine hp_fi (hp_rS E hR hl (m_X7_isIn G _ _ _ _ _ h) q1504 q1505 q82 q1506 nf_X7_isIn ⟨Nat.le_of_ble_eq_true rfl, Nat.le_of_ble_eq_true rfl⟩ (rest := []) rfl (Nat.le_of_ble_eq_true rfl) dX7_worth_34 ⟨Nat.le_of_ble_eq_true rfl, Nat.le_of_ble_eq_true rfl⟩) hR (rfl : 34 + 3 = 37) (fun z3101 Sx H locs hq hR => ?_)
    obtain ⟨hSx, h⟩ := hq
    rw [hSx] at hR
    refine hp_if_eq E dX7_worth_37 (rfl : 37 + 3 = 40) (tgt := 73) (by decide) (fun hb => ?_) (fun hb => ?_)
    · have h := h.1 hb
      exact b73 _ _ _ _ h (lv_sub hl [] rfl) hR hm
    · have h := h.2 hb
      refine hp_aload_n E hl 0 rfl 0 rfl dX7_worth_40 (rfl : 40 + 1 = 41) ?_
      refine hp_iload_n E hl 1 rfl 1 rfl dX7_worth_41 (rfl : 41 + 1 = 42) ?_
      refine hp_aload_n E hl 0 rfl 0 rfl dX7_worth_42 (rfl : 42 + 1 = 43) ?_
      refine hp_getI E hR in_X7 (hp_mono.c hm hc0) rfl 3 (Nat.le_of_ble_eq_true rfl) rfl q1264 (fun _ h => h) dX7_worth_43 (rfl : 43 + 3 = 46) ?_
      refine hp_fi (hp_rV E hR hl (m_X7_ageIn G _ _ _ _ _ (hp_mono.c hm hc0) h) (hp_mono.c hm hc0) (ci := 6) rfl rfl q1527 q1529 qs47 q82 q1530 nf_X7_ageIn ⟨Nat.le_of_ble_eq_true rfl, Nat.le_of_ble_eq_true rfl⟩ (rest := []) rfl (Nat.le_of_ble_eq_true rfl) dX7_worth_46 ⟨Nat.le_of_ble_eq_true rfl, Nat.le_of_ble_eq_true rfl⟩) hR (rfl : 46 + 3 = 49) (fun z3102 Sx H locs hq hR => ?_)
      obtain ⟨hSx, h⟩ := hq
      rw [hSx] at hR
      refine hp_bipush E (99 : Int32) (by decide) dX7_worth_49 (rfl : 49 + 2 = 51) ?_
      refine hp_icmp_gt E dX7_worth_51 (rfl : 51 + 3 = 54) (tgt := 73) (by decide) (fun hb => ?_) (fun hb => ?_)
      · have h := h.1 hb
        refine hp_iload_n E hl 2 rfl 2 rfl dX7_worth_54 (rfl : 54 + 1 = 55) ?_
        refine hp_iconst E (-1 : Int32) (by decide) dX7_worth_55 (rfl : 55 + 1 = 56) ?_
        refine hp_icmp_eq E dX7_worth_56 (rfl : 56 + 3 = 59) (tgt := 75) (by decide) (fun hb => ?_) (fun hb => ?_)
        · have h := h.1 hb
          exact b75 _ _ _ _ h hl hR hm
        · have h := h.2 hb
          refine hp_aload_n E hl 0 rfl 0 rfl dX7_worth_59 (rfl : 59 + 1 = 60) ?_
          refine hp_iload_n E hl 2 rfl 2 rfl dX7_worth_60 (rfl : 60 + 1 = 61) ?_
          refine hp_aload_n E hl 0 rfl 0 rfl dX7_worth_61 (rfl : 61 + 1 = 62) ?_
          refine hp_getI E hR in_X7 (hp_mono.c hm hc0) rfl 3 (Nat.le_of_ble_eq_true rfl) rfl q1264 (fun _ h => h) dX7_worth_62 (rfl : 62 + 3 = 65) ?_
          refine hp_fi (hp_rV E hR hl (m_X7_ageIn G _ _ _ _ _ (hp_mono.c hm hc0) h) (hp_mono.c hm hc0) (ci := 6) rfl rfl q1527 q1529 qs47 q82 q1530 nf_X7_ageIn ⟨Nat.le_of_ble_eq_true rfl, Nat.le_of_ble_eq_true rfl⟩ (rest := []) rfl (Nat.le_of_ble_eq_true rfl) dX7_worth_65 ⟨Nat.le_of_ble_eq_true rfl, Nat.le_of_ble_eq_true rfl⟩) hR (rfl : 65 + 3 = 68) (fun z3103 Sx H locs hq hR => ?_)
          obtain ⟨hSx, h⟩ := hq
          rw [hSx] at hR
          refine hp_bipush E (99 : Int32) (by decide) dX7_worth_68 (rfl : 68 + 2 = 70) ?_
          refine hp_icmp_le E dX7_worth_70 (rfl : 70 + 3 = 73) (tgt := 75) (by decide) (fun hb => ?_) (fun hb => ?_)
          · have h := h.1 hb
            exact b75 _ _ _ _ h hl hR hm
          · have h := h.2 hb
            exact b73 _ _ _ _ h (lv_sub hl [] rfl) hR hm
      · have h := h.2 hb
        exact b73 _ _ _ _ h (lv_sub hl [] rfl) hR hm
  unfold wp_X7_worth at h
  refine hp_aload_n E hl 0 rfl 0 rfl dX7_worth_0 (rfl : 0 + 1 = 1) ?_
  refine hp_iconst E (0 : Int32) (by decide) dX7_worth_1 (rfl : 1 + 1 = 2) ?_
  refine hx_putI E hR in_X7 tyX7 tyX7_ok nmX7 hc0 rfl 2 (Nat.le_of_ble_eq_true rfl) rfl q1263 (fun _ h => h) (Or.inl rfl) (Or.inl rfl) dX7_worth_2 (rfl : 2 + 3 = 5) (fun S1 H locs e3 hm2 hR => ?_)
  have h := h S1 e3
  have hm := hp_mono.tr hm hm2
  refine hp_aload_n E hl 0 rfl 0 rfl dX7_worth_5 (rfl : 5 + 1 = 6) ?_
  refine hp_iload_n E hl 1 rfl 1 rfl dX7_worth_6 (rfl : 6 + 1 = 7) ?_
  refine hp_fi (hp_rV E hR hl (m_X7_isLife G _ _ _ _ (hp_mono.c hm hc0) h) (hp_mono.c hm hc0) (ci := 6) rfl rfl q1515 q1517 qs44 q82 q1518 nf_X7_isLife ⟨Nat.le_of_ble_eq_true rfl, Nat.le_of_ble_eq_true rfl⟩ (rest := []) rfl (Nat.le_of_ble_eq_true rfl) dX7_worth_7 ⟨Nat.le_of_ble_eq_true rfl, Nat.le_of_ble_eq_true rfl⟩) hR (rfl : 7 + 3 = 10) (fun z4 Sx H locs hq hR => ?_)
  obtain ⟨hSx, h⟩ := hq
  rw [hSx] at hR
  refine hp_if_eq E dX7_worth_10 (rfl : 10 + 3 = 13) (tgt := 73) (by decide) (fun hb => ?_) (fun hb => ?_)
  · have h := h.1 hb
    exact b73 _ _ _ _ h (lv_sub hl [] rfl) hR hm
  · have h := h.2 hb
    refine hp_iload_n E hl 2 rfl 2 rfl dX7_worth_13 (rfl : 13 + 1 = 14) ?_
    refine hp_iconst E (-1 : Int32) (by decide) dX7_worth_14 (rfl : 14 + 1 = 15) ?_
    refine hp_icmp_eq E dX7_worth_15 (rfl : 15 + 3 = 18) (tgt := 31) (by decide) (fun hb => ?_) (fun hb => ?_)
    · have h := h.1 hb
      exact b31 _ _ _ _ h hl hR hm
    · have h := h.2 hb
      refine hp_aload_n E hl 0 rfl 0 rfl dX7_worth_18 (rfl : 18 + 1 = 19) ?_
      refine hp_iload_n E hl 2 rfl 2 rfl dX7_worth_19 (rfl : 19 + 1 = 20) ?_
      refine hp_fi (hp_rV E hR hl (m_X7_isLife G _ _ _ _ (hp_mono.c hm hc0) h) (hp_mono.c hm hc0) (ci := 6) rfl rfl q1515 q1517 qs44 q82 q1518 nf_X7_isLife ⟨Nat.le_of_ble_eq_true rfl, Nat.le_of_ble_eq_true rfl⟩ (rest := []) rfl (Nat.le_of_ble_eq_true rfl) dX7_worth_20 ⟨Nat.le_of_ble_eq_true rfl, Nat.le_of_ble_eq_true rfl⟩) hR (rfl : 20 + 3 = 23) (fun z5 Sx H locs hq hR => ?_)
      obtain ⟨hSx, h⟩ := hq
      rw [hSx] at hR
      refine hp_if_eq E dX7_worth_23 (rfl : 23 + 3 = 26) (tgt := 73) (by decide) (fun hb => ?_) (fun hb => ?_)
      · have h := h.1 hb
        exact b73 _ _ _ _ h (lv_sub hl [] rfl) hR hm
      · have h := h.2 hb
        refine hp_iload_n E hl 1 rfl 1 rfl dX7_worth_26 (rfl : 26 + 1 = 27) ?_
        refine hp_iload_n E hl 2 rfl 2 rfl dX7_worth_27 (rfl : 27 + 1 = 28) ?_
        refine hp_icmp_eq E dX7_worth_28 (rfl : 28 + 3 = 31) (tgt := 73) (by decide) (fun hb => ?_) (fun hb => ?_)
        · have h := h.1 hb
          exact b73 _ _ _ _ h (lv_sub hl [] rfl) hR hm
        · have h := h.2 hb
          exact b31 _ _ _ _ h hl hR hm
def wb_X7_names_408 (o : Nat) (a1 : Int32) (v2 : Int32) (v3 : Int32) (v4 : Int32) (v5 : Int32) (v6 : Int32) (v7 : Int32) (S : hp_St) (K201 : Int32 → Int32 → Int32 → Int32 → hp_St → Prop) (Q : Int32 → hp_St → Prop) : Prop := K201 v4 v5 v6 (v7 + (1 : Int32)) S
def wb_X7_names_377 (o : Nat) (a1 : Int32) (v2 : Int32) (v3 : Int32) (v4 : Int32) (v5 : Int32) (v6 : Int32) (v7 : Int32) (v11 : Int32) (S : hp_St) (K201 : Int32 → Int32 → Int32 → Int32 → hp_St → Prop) (K377 : Int32 → hp_St → Prop) (Q : Int32 → hp_St → Prop) : Prop := (((v11 < v2) → (st_C S (st_R S o 55) = 50) ∧ (vp_in v11 (st_L S (st_R S o 55))) ∧ (st_C S (st_R S o 54) = 50) ∧ (vp_in v11 (st_L S (st_R S o 54))) ∧ (st_C S (st_R S o 53) = 50) ∧ (vp_in (st_I S (st_R S o 55) v11.toNatClampNeg) (st_L S (st_R S o 53))) ∧ (∀ S37707, S37707 = st_pI S (st_R S o 53) (st_I S (st_R S o 55) v11.toNatClampNeg).toNatClampNeg (st_I S (st_R S o 54) v11.toNatClampNeg) → K377 (v11 + (1 : Int32)) S37707)) ∧ ((¬ (v11 < v2)) → wb_X7_names_408 o a1 v2 v3 v4 v5 v6 v7 S K201 Q))
def wl_X7_names_377 (o : Nat) (a1 : Int32) (v2 : Int32) (v3 : Int32) (v4 : Int32) (v5 : Int32) (v6 : Int32) (v7 : Int32) (v11 : Int32) (S : hp_St) (K201 : Int32 → Int32 → Int32 → Int32 → hp_St → Prop) (Q : Int32 → hp_St → Prop) : Prop := ∃ (I : Int32 → hp_St → Prop) (μ : Int32 → hp_St → Nat), I v11 S ∧ ∀ (v11 : Int32) (S1 : hp_St), hp_mono S S1 → I v11 S1 → wb_X7_names_377 o a1 v2 v3 v4 v5 v6 v7 v11 S1 K201 (fun v11' S2 => I v11' S2 ∧ μ v11' S2 < μ v11 S1) Q
def wb_X7_names_353 (o : Nat) (a1 : Int32) (v2 : Int32) (v3 : Int32) (v4 : Int32) (v5 : Int32) (v6 : Int32) (v7 : Int32) (v11 : Int32) (S : hp_St) (K201 : Int32 → Int32 → Int32 → Int32 → hp_St → Prop) (K353 : Int32 → hp_St → Prop) (Q : Int32 → hp_St → Prop) : Prop := (((v11 < (12 : Int32)) → (st_C S (st_R S o 53) = 50) ∧ (vp_in v11 (st_L S (st_R S o 53))) ∧ (∀ S35303, S35303 = st_pI S (st_R S o 53) v11.toNatClampNeg (0 : Int32) → K353 (v11 + (1 : Int32)) S35303)) ∧ ((¬ (v11 < (12 : Int32))) → wl_X7_names_377 o a1 v2 v3 v4 v5 v6 v7 (0 : Int32) S K201 Q))
def wl_X7_names_353 (o : Nat) (a1 : Int32) (v2 : Int32) (v3 : Int32) (v4 : Int32) (v5 : Int32) (v6 : Int32) (v7 : Int32) (v11 : Int32) (S : hp_St) (K201 : Int32 → Int32 → Int32 → Int32 → hp_St → Prop) (Q : Int32 → hp_St → Prop) : Prop := ∃ (I : Int32 → hp_St → Prop) (μ : Int32 → hp_St → Nat), I v11 S ∧ ∀ (v11 : Int32) (S1 : hp_St), hp_mono S S1 → I v11 S1 → wb_X7_names_353 o a1 v2 v3 v4 v5 v6 v7 v11 S1 K201 (fun v11' S2 => I v11' S2 ∧ μ v11' S2 < μ v11 S1) Q
def wb_X7_names_339 (o : Nat) (a1 : Int32) (v2 : Int32) (v3 : Int32) (v7 : Int32) (v9 : Int32) (v10 : Int32) (S : hp_St) (K201 : Int32 → Int32 → Int32 → Int32 → hp_St → Prop) (Q : Int32 → hp_St → Prop) : Prop := wl_X7_names_353 o a1 v2 v3 (1 : Int32) v9 v10 v7 (0 : Int32) S K201 Q
def wb_X7_names_222 (o : Nat) (a1 : Int32) (v2 : Int32) (v3 : Int32) (v4 : Int32) (v5 : Int32) (v6 : Int32) (v7 : Int32) (v8 : Int32) (v9 : Int32) (v10 : Int32) (v11 : Int32) (S : hp_St) (K201 : Int32 → Int32 → Int32 → Int32 → hp_St → Prop) (K222 : Int32 → Int32 → Int32 → Int32 → hp_St → Prop) (Q : Int32 → hp_St → Prop) : Prop := (((v11 < 0) → (((v10 ≤ a1) → (((v4 = 0) → wb_X7_names_339 o a1 v2 v3 v7 v9 v10 S K201 Q) ∧ ((¬ (v4 = 0)) → (((v9 < v5) → wb_X7_names_408 o a1 v2 v3 v4 v5 v6 v7 S K201 Q) ∧ ((¬ (v9 < v5)) → (((v9 = v5) → (((v10 < v6) → wb_X7_names_339 o a1 v2 v3 v7 v9 v10 S K201 Q) ∧ ((¬ (v10 < v6)) → wb_X7_names_408 o a1 v2 v3 v4 v5 v6 v7 S K201 Q))) ∧ ((¬ (v9 = v5)) → wb_X7_names_339 o a1 v2 v3 v7 v9 v10 S K201 Q))))))) ∧ ((¬ (v10 ≤ a1)) → wb_X7_names_408 o a1 v2 v3 v4 v5 v6 v7 S K201 Q))) ∧ ((¬ (v11 < 0)) → (st_C S (st_R S o 40) = 50) ∧ (vp_in (3 : Int32) (st_L S (st_R S o 40))) ∧ (¬ ((st_I S (st_R S o 40) (3 : Int32).toNatClampNeg) + (1 : Int32)) = 0) ∧ (st_C S (st_R S o 54) = 50) ∧ (vp_in v11 (st_L S (st_R S o 54))) ∧ (∀ S22206, S22206 = st_pI S (st_R S o 54) v11.toNatClampNeg (v8 - v8 / ((st_I S (st_R S o 40) (3 : Int32).toNatClampNeg) + (1 : Int32)) * ((st_I S (st_R S o 40) (3 : Int32).toNatClampNeg) + (1 : Int32))) → (st_C S22206 (st_R S22206 o 40) = 50) ∧ (vp_in (3 : Int32) (st_L S22206 (st_R S22206 o 40))) ∧ (¬ ((st_I S22206 (st_R S22206 o 40) (3 : Int32).toNatClampNeg) + (1 : Int32)) = 0) ∧ (st_C S22206 (st_R S22206 o 54) = 50) ∧ (vp_in v11 (st_L S22206 (st_R S22206 o 54))) ∧ (st_C S22206 (st_R S22206 o 56) = 50) ∧ (vp_in v11 (st_L S22206 (st_R S22206 o 56))) ∧ (vp_in v11 (st_L S22206 (st_R S22206 o 54))) ∧ (st_C S22206 (st_R S22206 o 57) = 50) ∧ (vp_in v11 (st_L S22206 (st_R S22206 o 57))) ∧ K222 (v8 / ((st_I S22206 (st_R S22206 o 40) (3 : Int32).toNatClampNeg) + (1 : Int32))) (v9 + ((st_I S22206 (st_R S22206 o 54) v11.toNatClampNeg) * (st_I S22206 (st_R S22206 o 56) v11.toNatClampNeg))) (v10 + ((st_I S22206 (st_R S22206 o 54) v11.toNatClampNeg) * (st_I S22206 (st_R S22206 o 57) v11.toNatClampNeg))) (v11 + (-1 : Int32)) S22206)))
def wl_X7_names_222 (o : Nat) (a1 : Int32) (v2 : Int32) (v3 : Int32) (v4 : Int32) (v5 : Int32) (v6 : Int32) (v7 : Int32) (v8 : Int32) (v9 : Int32) (v10 : Int32) (v11 : Int32) (S : hp_St) (K201 : Int32 → Int32 → Int32 → Int32 → hp_St → Prop) (Q : Int32 → hp_St → Prop) : Prop := ∃ (I : Int32 → Int32 → Int32 → Int32 → hp_St → Prop) (μ : Int32 → Int32 → Int32 → Int32 → hp_St → Nat), I v8 v9 v10 v11 S ∧ ∀ (v8 : Int32) (v9 : Int32) (v10 : Int32) (v11 : Int32) (S1 : hp_St), hp_mono S S1 → I v8 v9 v10 v11 S1 → wb_X7_names_222 o a1 v2 v3 v4 v5 v6 v7 v8 v9 v10 v11 S1 K201 (fun v8' v9' v10' v11' S2 => I v8' v9' v10' v11' S2 ∧ μ v8' v9' v10' v11' S2 < μ v8 v9 v10 v11 S1) Q
def wb_X7_names_201 (o : Nat) (a1 : Int32) (v2 : Int32) (v3 : Int32) (v4 : Int32) (v5 : Int32) (v6 : Int32) (v7 : Int32) (S : hp_St) (K201 : Int32 → Int32 → Int32 → Int32 → hp_St → Prop) (Q : Int32 → hp_St → Prop) : Prop := (((v7 < v3) → wl_X7_names_222 o a1 v2 v3 v4 v5 v6 v7 v7 (0 : Int32) (0 : Int32) (v2 - (1 : Int32)) S K201 Q) ∧ ((¬ (v7 < v3)) → (∀ S20101, S20101 = st_pI S o 52 (1 : Int32) → Q v5 S20101)))
def wl_X7_names_201 (o : Nat) (a1 : Int32) (v2 : Int32) (v3 : Int32) (v4 : Int32) (v5 : Int32) (v6 : Int32) (v7 : Int32) (S : hp_St) (Q : Int32 → hp_St → Prop) : Prop := ∃ (I : Int32 → Int32 → Int32 → Int32 → hp_St → Prop) (μ : Int32 → Int32 → Int32 → Int32 → hp_St → Nat), I v4 v5 v6 v7 S ∧ ∀ (v4 : Int32) (v5 : Int32) (v6 : Int32) (v7 : Int32) (S1 : hp_St), hp_mono S S1 → I v4 v5 v6 v7 S1 → wb_X7_names_201 o a1 v2 v3 v4 v5 v6 v7 S1 (fun v4' v5' v6' v7' S2 => I v4' v5' v6' v7' S2 ∧ μ v4' v5' v6' v7' S2 < μ v4 v5 v6 v7 S1) Q
def wb_X7_names_126 (o : Nat) (a1 : Int32) (v2 : Int32) (v3 : Int32) (v4 : Int32) (S : hp_St) (K126 : Int32 → hp_St → Prop) (Q : Int32 → hp_St → Prop) : Prop := (((v4 < v2) → (st_C S (st_R S o 55) = 50) ∧ (vp_in v4 (st_L S (st_R S o 55))) ∧ wp_X7_priceOf o (st_I S (st_R S o 55) v4.toNatClampNeg) (-1 : Int32) S (fun z12603 => (st_C S (st_R S o 57) = 50) ∧ (vp_in v4 (st_L S (st_R S o 57))) ∧ (∀ S12606, S12606 = st_pI S (st_R S o 57) v4.toNatClampNeg z12603 → (st_C S12606 (st_R S12606 o 55) = 50) ∧ (vp_in v4 (st_L S12606 (st_R S12606 o 55))) ∧ wp_X7_worthOf o (st_I S12606 (st_R S12606 o 55) v4.toNatClampNeg) S12606 (fun z12611 => (st_C S12606 (st_R S12606 o 57) = 50) ∧ (vp_in v4 (st_L S12606 (st_R S12606 o 57))) ∧ (st_C S12606 (st_R S12606 o 56) = 50) ∧ (vp_in v4 (st_L S12606 (st_R S12606 o 56))) ∧ (∀ S12616, S12616 = st_pI S12606 (st_R S12606 o 56) v4.toNatClampNeg (((2 : Int32) * z12611) - ((1000 : Int32) * (st_I S12606 (st_R S12606 o 57) v4.toNatClampNeg))) → K126 (v4 + (1 : Int32)) S12616))))) ∧ ((¬ (v4 < v2)) → wl_X7_names_201 o a1 v2 v3 (0 : Int32) (0 : Int32) (0 : Int32) (0 : Int32) S Q))
def wl_X7_names_126 (o : Nat) (a1 : Int32) (v2 : Int32) (v3 : Int32) (v4 : Int32) (S : hp_St) (Q : Int32 → hp_St → Prop) : Prop := ∃ (I : Int32 → hp_St → Prop) (μ : Int32 → hp_St → Nat), I v4 S ∧ ∀ (v4 : Int32) (S1 : hp_St), hp_mono S S1 → I v4 S1 → wb_X7_names_126 o a1 v2 v3 v4 S1 (fun v4' S2 => I v4' S2 ∧ μ v4' S2 < μ v4 S1) Q
def wb_X7_names_101 (o : Nat) (a1 : Int32) (v2 : Int32) (v3 : Int32) (v4 : Int32) (S : hp_St) (K35 : Int32 → Int32 → Int32 → hp_St → Prop) (Q : Int32 → hp_St → Prop) : Prop := K35 v2 v3 (v4 + (1 : Int32)) S
def wb_X7_names_100 (o : Nat) (a1 : Int32) (v2 : Int32) (v4 : Int32) (t0 : Int32) (S : hp_St) (K35 : Int32 → Int32 → Int32 → hp_St → Prop) (Q : Int32 → hp_St → Prop) : Prop := wb_X7_names_101 o a1 v2 t0 v4 S K35 Q
def wb_X7_names_35 (o : Nat) (a1 : Int32) (v2 : Int32) (v3 : Int32) (v4 : Int32) (S : hp_St) (K35 : Int32 → Int32 → Int32 → hp_St → Prop) (Q : Int32 → hp_St → Prop) : Prop := (((v4 < (st_I S o 4)) → (st_C S (st_R S o 45) = 50) ∧ (vp_in v4 (st_L S (st_R S o 45))) ∧ ((((st_I S (st_R S o 45) v4.toNatClampNeg) = (-1 : Int32)) → wp_X7_mayBe o v4 (-1 : Int32) S (fun z3503 => (((z3503 = 0) → wb_X7_names_101 o a1 v2 v3 v4 S K35 Q) ∧ ((¬ (z3503 = 0)) → (st_C S (st_R S o 55) = 50) ∧ (vp_in v2 (st_L S (st_R S o 55))) ∧ (∀ S3506, S3506 = st_pI S (st_R S o 55) v2.toNatClampNeg v4 → (((v3 ≤ (5000 : Int32)) → (st_C S3506 (st_R S3506 o 40) = 50) ∧ (vp_in (3 : Int32) (st_L S3506 (st_R S3506 o 40))) ∧ wb_X7_names_100 o a1 (v2 + (1 : Int32)) v4 (v3 * ((st_I S3506 (st_R S3506 o 40) (3 : Int32).toNatClampNeg) + (1 : Int32))) S3506 K35 Q) ∧ ((¬ (v3 ≤ (5000 : Int32))) → wb_X7_names_100 o a1 (v2 + (1 : Int32)) v4 v3 S3506 K35 Q))))))) ∧ ((¬ ((st_I S (st_R S o 45) v4.toNatClampNeg) = (-1 : Int32))) → wb_X7_names_101 o a1 v2 v3 v4 S K35 Q))) ∧ ((¬ (v4 < (st_I S o 4))) → (((v3 ≤ (5000 : Int32)) → wp_X7_lay o (0 : Int32) S (fun S3511 => hp_mono S S3511 → wl_X7_names_126 o a1 v2 v3 (0 : Int32) S3511 Q)) ∧ ((¬ (v3 ≤ (5000 : Int32))) → Q (-2147483648 : Int32) S))))
def wl_X7_names_35 (o : Nat) (a1 : Int32) (v2 : Int32) (v3 : Int32) (v4 : Int32) (S : hp_St) (Q : Int32 → hp_St → Prop) : Prop := ∃ (I : Int32 → Int32 → Int32 → hp_St → Prop) (μ : Int32 → Int32 → Int32 → hp_St → Nat), I v2 v3 v4 S ∧ ∀ (v2 : Int32) (v3 : Int32) (v4 : Int32) (S1 : hp_St), hp_mono S S1 → I v2 v3 v4 S1 → wb_X7_names_35 o a1 v2 v3 v4 S1 (fun v2' v3' v4' S2 => I v2' v3' v4' S2 ∧ μ v2' v3' v4' S2 < μ v2 v3 v4 S1) Q
def wp_X7_names (o : Nat) (a1 : Int32) (S : hp_St) (Q : Int32 → hp_St → Prop) : Prop := (∀ S1, S1 = st_pI S o 2 (0 : Int32) → wp_X7_isIn a1 (0 : Int32) (99999 : Int32) S1 (fun z4 => (((z4 = 0) → Q (-2147483648 : Int32) S1) ∧ ((¬ (z4 = 0)) → wp_X7_know o (st_I S1 o 3) S1 (fun S5 => hp_mono S1 S5 → wl_X7_names_35 o a1 (0 : Int32) (1 : Int32) (0 : Int32) S5 Q)))))
theorem nf_X7_names : hp_nf yX7_names 1 = true := by decide +kernel
set_option maxHeartbeats 4000000 in
theorem m_X7_names {l : Launch} {B : Nat} {D : va_G} {s0 : State} {b0 : Nat} (G : hp_G l B D s0 b0) (o : Nat) (a1 : Int32) (Si : hp_St) (Q : Int32 → hp_St → Prop) (hc0 : st_C Si o = 7) (h : wp_X7_names o a1 Si Q) : hp_M l B D s0 yX7_names cX7_names 12 (some .int) 5 320 0 0 [hp_v B o, .int a1] Si (hp_Qi B D s0 (fun r S' => hp_mono Si S' ∧ Q r S')) := by
  refine hp_start G (by decide +kernel) rfl rfl (lv := [(0, hp_v B o), (1, .int a1)]) (by simp [lg_sl, hp_vc, hp_ci, hp_cj]) (by simp [lv_args, hp_vc, hp_ci, hp_cj]) ?_
  intro p e s m args below meth c E ls hl hR
  have hm : hp_mono Si Si := hp_mono.rf
  generalize hH : s.heap = H at hR ⊢
  generalize hLo : ([] : List Loc) = locs at hR ⊢
  have b201 : ∀ (v2 : Int32) (v3 : Int32) (v4 : Int32) (v5 : Int32) (v6 : Int32) (v7 : Int32) (S : hp_St) (H : Heap) (locs : List Loc) (ls : Array Slot), wl_X7_names_201 o a1 v2 v3 v4 v5 v6 v7 S Q → lv_has ls 12 [(0, hp_v B o), (1, .int a1), (2, .int v2), (3, .int v3), (4, .int v4), (5, .int v5), (6, .int v6), (7, .int v7)] → hp_S B D s0 S H locs → hp_mono Si S → W p l e ({ frames := 5, cells := 0, slots := 0, locals := 320 } : Room) s m args below meth c H locs 0 0 (MQ below (hp_Qi B D s0 (fun r S' => hp_mono Si S' ∧ Q r S')) args s 0 0 (fun q => B < q)) (F0 m 201 ls []) := by
    intro v2 v3 v4 v5 v6 v7 S H locs ls h hl hR hm
    obtain ⟨I201, μ201, hI, hst⟩ := h
    obtain ⟨Sa201, eSa201⟩ : ∃ x, x = S := ⟨_, rfl⟩
    subst eSa201
    have key201 : ∀ (N : Nat) (v4 : Int32) (v5 : Int32) (v6 : Int32) (v7 : Int32) (Su201 : hp_St) (H : Heap) (locs : List Loc) (ls : Array Slot), μ201 v4 v5 v6 v7 Su201 < N → I201 v4 v5 v6 v7 Su201 → lv_has ls 12 [(0, hp_v B o), (1, .int a1), (2, .int v2), (3, .int v3), (4, .int v4), (5, .int v5), (6, .int v6), (7, .int v7)] → hp_S B D s0 Su201 H locs → hp_mono Sa201 Su201 → W p l e ({ frames := 5, cells := 0, slots := 0, locals := 320 } : Room) s m args below meth c H locs 0 0 (MQ below (hp_Qi B D s0 (fun r S' => hp_mono Si S' ∧ Q r S')) args s 0 0 (fun q => B < q)) (F0 m 201 ls []) := by
      intro N
      induction N with
      | zero =>
        intro v4 v5 v6 v7 Su201 H locs ls hN
        exact absurd hN (Nat.not_lt_zero _)
      | succ N ih201 =>
        intro v4 v5 v6 v7 Su201 H locs ls hN hI hl hR ms201
        have h := hst v4 v5 v6 v7 Su201 ms201 hI
        have hm := hp_mono.tr hm ms201
        obtain ⟨K201, hKe201⟩ : ∃ K : Int32 → Int32 → Int32 → Int32 → hp_St → Prop, K = (fun v4' v5' v6' v7' Sk => I201 v4' v5' v6' v7' Sk ∧ μ201 v4' v5' v6' v7' Sk < μ201 v4 v5 v6 v7 Su201) := ⟨_, rfl⟩
        rw [← hKe201] at h
        have hK201 : ∀ (v4' : Int32) (v5' : Int32) (v6' : Int32) (v7' : Int32) (Sk : hp_St) (H : Heap) (locs : List Loc) (ls : Array Slot), K201 v4' v5' v6' v7' Sk → lv_has ls 12 [(0, hp_v B o), (1, .int a1), (2, .int v2), (3, .int v3), (4, .int (v4')), (5, .int (v5')), (6, .int (v6')), (7, .int (v7'))] → hp_S B D s0 Sk H locs → hp_mono Sa201 Sk → W p l e ({ frames := 5, cells := 0, slots := 0, locals := 320 } : Room) s m args below meth c H locs 0 0 (MQ below (hp_Qi B D s0 (fun r S' => hp_mono Si S' ∧ Q r S')) args s 0 0 (fun q => B < q)) (F0 m 201 ls []) := by
          intro v4' v5' v6' v7' Sk H locs ls hI hl hR ms
          rw [hKe201] at hI
          exact ih201 v4' v5' v6' v7' Sk H locs ls (Nat.lt_of_lt_of_le hI.2 (Nat.le_of_lt_succ hN)) hI.1 hl hR ms
        have b408 : ∀ (v4 : Int32) (v5 : Int32) (v6 : Int32) (v7 : Int32) (S : hp_St) (H : Heap) (locs : List Loc) (ls : Array Slot), wb_X7_names_408 o a1 v2 v3 v4 v5 v6 v7 S K201 Q → lv_has ls 12 [(0, hp_v B o), (1, .int a1), (2, .int v2), (3, .int v3), (4, .int v4), (5, .int v5), (6, .int v6), (7, .int v7)] → hp_S B D s0 S H locs → hp_mono Si S → hp_mono Sa201 S → W p l e ({ frames := 5, cells := 0, slots := 0, locals := 320 } : Room) s m args below meth c H locs 0 0 (MQ below (hp_Qi B D s0 (fun r S' => hp_mono Si S' ∧ Q r S')) args s 0 0 (fun q => B < q)) (F0 m 408 ls []) := by
          intro v4 v5 v6 v7 S H locs ls h hl hR hm ms201
          unfold wb_X7_names_408 at h
          refine hp_iinc E hl (v7 + (1 : Int32)) 7 (lv' := [(0, hp_v B o), (1, .int a1), (2, .int v2), (3, .int v3), (4, .int v4), (5, .int v5), (6, .int v6)]) dX7_names_408 (rfl : 408 + 3 = 411) rfl (by first | rfl | (congr 1)) (by decide) rfl (fun ls hl => ?_)
          refine hp_goto E (tgt := 201) dX7_names_411 (by decide) ?_
          exact hK201 _ _ _ _ _ _ _ _ h (lv_sub hl [1, 2, 3, 4, 5, 6, 7, 0] rfl) hR ms201
        have b377 : ∀ (v4 : Int32) (v5 : Int32) (v6 : Int32) (v7 : Int32) (v11 : Int32) (S : hp_St) (H : Heap) (locs : List Loc) (ls : Array Slot), wl_X7_names_377 o a1 v2 v3 v4 v5 v6 v7 v11 S K201 Q → lv_has ls 12 [(0, hp_v B o), (1, .int a1), (2, .int v2), (3, .int v3), (4, .int v4), (5, .int v5), (6, .int v6), (7, .int v7), (11, .int v11)] → hp_S B D s0 S H locs → hp_mono Si S → hp_mono Sa201 S → W p l e ({ frames := 5, cells := 0, slots := 0, locals := 320 } : Room) s m args below meth c H locs 0 0 (MQ below (hp_Qi B D s0 (fun r S' => hp_mono Si S' ∧ Q r S')) args s 0 0 (fun q => B < q)) (F0 m 377 ls []) := by
          intro v4 v5 v6 v7 v11 S H locs ls h hl hR hm ms201
          obtain ⟨I377, μ377, hI, hst⟩ := h
          obtain ⟨Sa377, eSa377⟩ : ∃ x, x = S := ⟨_, rfl⟩
          subst eSa377
          have key377 : ∀ (N : Nat) (v11 : Int32) (Su377 : hp_St) (H : Heap) (locs : List Loc) (ls : Array Slot), μ377 v11 Su377 < N → I377 v11 Su377 → lv_has ls 12 [(0, hp_v B o), (1, .int a1), (2, .int v2), (3, .int v3), (4, .int v4), (5, .int v5), (6, .int v6), (7, .int v7), (11, .int v11)] → hp_S B D s0 Su377 H locs → hp_mono Sa377 Su377 → W p l e ({ frames := 5, cells := 0, slots := 0, locals := 320 } : Room) s m args below meth c H locs 0 0 (MQ below (hp_Qi B D s0 (fun r S' => hp_mono Si S' ∧ Q r S')) args s 0 0 (fun q => B < q)) (F0 m 377 ls []) := by
            intro N
            induction N with
            | zero =>
              intro v11 Su377 H locs ls hN
              exact absurd hN (Nat.not_lt_zero _)
            | succ N ih377 =>
              intro v11 Su377 H locs ls hN hI hl hR ms377
              have h := hst v11 Su377 ms377 hI
              have hm := hp_mono.tr hm ms377
              have ms201 := hp_mono.tr ms201 ms377
              obtain ⟨K377, hKe377⟩ : ∃ K : Int32 → hp_St → Prop, K = (fun v11' Sk => I377 v11' Sk ∧ μ377 v11' Sk < μ377 v11 Su377) := ⟨_, rfl⟩
              rw [← hKe377] at h
              have hK377 : ∀ (v11' : Int32) (Sk : hp_St) (H : Heap) (locs : List Loc) (ls : Array Slot), K377 v11' Sk → lv_has ls 12 [(0, hp_v B o), (1, .int a1), (2, .int v2), (3, .int v3), (4, .int v4), (5, .int v5), (6, .int v6), (7, .int v7), (11, .int (v11'))] → hp_S B D s0 Sk H locs → hp_mono Sa377 Sk → W p l e ({ frames := 5, cells := 0, slots := 0, locals := 320 } : Room) s m args below meth c H locs 0 0 (MQ below (hp_Qi B D s0 (fun r S' => hp_mono Si S' ∧ Q r S')) args s 0 0 (fun q => B < q)) (F0 m 377 ls []) := by
                intro v11' Sk H locs ls hI hl hR ms
                rw [hKe377] at hI
                exact ih377 v11' Sk H locs ls (Nat.lt_of_lt_of_le hI.2 (Nat.le_of_lt_succ hN)) hI.1 hl hR ms
              unfold wb_X7_names_377 at h
              refine hp_iload E hl 8 rfl dX7_names_377 (rfl : 377 + 2 = 379) ?_
              refine hp_iload_n E hl 2 rfl 2 rfl dX7_names_379 (rfl : 379 + 1 = 380) ?_
              refine hp_icmp_ge E dX7_names_380 (rfl : 380 + 3 = 383) (tgt := 408) (by decide) (fun hb => ?_) (fun hb => ?_)
              · have h := h.1 hb
                refine hp_aload_n E hl 0 rfl 0 rfl dX7_names_383 (rfl : 383 + 1 = 384) ?_
                refine hp_getR E hR in_X7 (hp_mono.c hm hc0) rfl 53 (Nat.le_of_ble_eq_true rfl) rfl q1314 (fun _ h => h) dX7_names_384 (rfl : 384 + 3 = 387) ?_
                refine hp_aload_n E hl 0 rfl 0 rfl dX7_names_387 (rfl : 387 + 1 = 388) ?_
                refine hp_getR E hR in_X7 (hp_mono.c hm hc0) rfl 55 (Nat.le_of_ble_eq_true rfl) rfl q1316 (fun _ h => h) dX7_names_388 (rfl : 388 + 3 = 391) ?_
                refine hp_iload E hl 8 rfl dX7_names_391 (rfl : 391 + 2 = 393) ?_
                obtain ⟨hc37701, h⟩ := h
                obtain ⟨hi37702, h⟩ := h
                refine hp_iald E hR hc37701 hi37702 dX7_names_393 (rfl : 393 + 1 = 394) ?_
                refine hp_aload_n E hl 0 rfl 0 rfl dX7_names_394 (rfl : 394 + 1 = 395) ?_
                refine hp_getR E hR in_X7 (hp_mono.c hm hc0) rfl 54 (Nat.le_of_ble_eq_true rfl) rfl q1315 (fun _ h => h) dX7_names_395 (rfl : 395 + 3 = 398) ?_
                refine hp_iload E hl 8 rfl dX7_names_398 (rfl : 398 + 2 = 400) ?_
                obtain ⟨hc37703, h⟩ := h
                obtain ⟨hi37704, h⟩ := h
                refine hp_iald E hR hc37703 hi37704 dX7_names_400 (rfl : 400 + 1 = 401) ?_
                obtain ⟨hc37705, h⟩ := h
                obtain ⟨hi37706, h⟩ := h
                refine hx_iast E hR hc37705 hi37706 dX7_names_401 (rfl : 401 + 1 = 402) (fun S37707 H locs e37709 hm37708 hR => ?_)
                have h := h S37707 e37709
                have hm := hp_mono.tr hm hm37708
                have ms201 := hp_mono.tr ms201 hm37708
                have ms377 := hp_mono.tr ms377 hm37708
                refine hp_iinc E hl (v11 + (1 : Int32)) 8 (lv' := [(0, hp_v B o), (1, .int a1), (2, .int v2), (3, .int v3), (4, .int v4), (5, .int v5), (6, .int v6), (7, .int v7)]) dX7_names_402 (rfl : 402 + 3 = 405) rfl (by first | rfl | (congr 1)) (by decide) rfl (fun ls hl => ?_)
                refine hp_goto E (tgt := 377) dX7_names_405 (by decide) ?_
                exact hK377 _ _ _ _ _ h (lv_sub hl [1, 2, 3, 4, 5, 6, 7, 8, 0] rfl) hR ms377
              · have h := h.2 hb
                exact b408 _ _ _ _ _ _ _ _ h (lv_sub hl [0, 1, 2, 3, 4, 5, 6, 7] rfl) hR hm ms201
          exact key377 (μ377 v11 Sa377 + 1) v11 _ H locs ls (Nat.lt_succ_self _) hI hl hR hp_mono.rf
        have b353 : ∀ (v4 : Int32) (v5 : Int32) (v6 : Int32) (v7 : Int32) (v11 : Int32) (S : hp_St) (H : Heap) (locs : List Loc) (ls : Array Slot), wl_X7_names_353 o a1 v2 v3 v4 v5 v6 v7 v11 S K201 Q → lv_has ls 12 [(0, hp_v B o), (1, .int a1), (2, .int v2), (3, .int v3), (4, .int v4), (5, .int v5), (6, .int v6), (7, .int v7), (11, .int v11)] → hp_S B D s0 S H locs → hp_mono Si S → hp_mono Sa201 S → W p l e ({ frames := 5, cells := 0, slots := 0, locals := 320 } : Room) s m args below meth c H locs 0 0 (MQ below (hp_Qi B D s0 (fun r S' => hp_mono Si S' ∧ Q r S')) args s 0 0 (fun q => B < q)) (F0 m 353 ls []) := by
          intro v4 v5 v6 v7 v11 S H locs ls h hl hR hm ms201
          obtain ⟨I353, μ353, hI, hst⟩ := h
          obtain ⟨Sa353, eSa353⟩ : ∃ x, x = S := ⟨_, rfl⟩
          subst eSa353
          have key353 : ∀ (N : Nat) (v11 : Int32) (Su353 : hp_St) (H : Heap) (locs : List Loc) (ls : Array Slot), μ353 v11 Su353 < N → I353 v11 Su353 → lv_has ls 12 [(0, hp_v B o), (1, .int a1), (2, .int v2), (3, .int v3), (4, .int v4), (5, .int v5), (6, .int v6), (7, .int v7), (11, .int v11)] → hp_S B D s0 Su353 H locs → hp_mono Sa353 Su353 → W p l e ({ frames := 5, cells := 0, slots := 0, locals := 320 } : Room) s m args below meth c H locs 0 0 (MQ below (hp_Qi B D s0 (fun r S' => hp_mono Si S' ∧ Q r S')) args s 0 0 (fun q => B < q)) (F0 m 353 ls []) := by
            intro N
            induction N with
            | zero =>
              intro v11 Su353 H locs ls hN
              exact absurd hN (Nat.not_lt_zero _)
            | succ N ih353 =>
              intro v11 Su353 H locs ls hN hI hl hR ms353
              have h := hst v11 Su353 ms353 hI
              have hm := hp_mono.tr hm ms353
              have ms201 := hp_mono.tr ms201 ms353
              obtain ⟨K353, hKe353⟩ : ∃ K : Int32 → hp_St → Prop, K = (fun v11' Sk => I353 v11' Sk ∧ μ353 v11' Sk < μ353 v11 Su353) := ⟨_, rfl⟩
              rw [← hKe353] at h
              have hK353 : ∀ (v11' : Int32) (Sk : hp_St) (H : Heap) (locs : List Loc) (ls : Array Slot), K353 v11' Sk → lv_has ls 12 [(0, hp_v B o), (1, .int a1), (2, .int v2), (3, .int v3), (4, .int v4), (5, .int v5), (6, .int v6), (7, .int v7), (11, .int (v11'))] → hp_S B D s0 Sk H locs → hp_mono Sa353 Sk → W p l e ({ frames := 5, cells := 0, slots := 0, locals := 320 } : Room) s m args below meth c H locs 0 0 (MQ below (hp_Qi B D s0 (fun r S' => hp_mono Si S' ∧ Q r S')) args s 0 0 (fun q => B < q)) (F0 m 353 ls []) := by
                intro v11' Sk H locs ls hI hl hR ms
                rw [hKe353] at hI
                exact ih353 v11' Sk H locs ls (Nat.lt_of_lt_of_le hI.2 (Nat.le_of_lt_succ hN)) hI.1 hl hR ms
              unfold wb_X7_names_353 at h
              refine hp_iload E hl 8 rfl dX7_names_353 (rfl : 353 + 2 = 355) ?_
              refine hp_bipush E (12 : Int32) (by decide) dX7_names_355 (rfl : 355 + 2 = 357) ?_
              refine hp_icmp_ge E dX7_names_357 (rfl : 357 + 3 = 360) (tgt := 374) (by decide) (fun hb => ?_) (fun hb => ?_)
              · have h := h.1 hb
                refine hp_aload_n E hl 0 rfl 0 rfl dX7_names_360 (rfl : 360 + 1 = 361) ?_
                refine hp_getR E hR in_X7 (hp_mono.c hm hc0) rfl 53 (Nat.le_of_ble_eq_true rfl) rfl q1314 (fun _ h => h) dX7_names_361 (rfl : 361 + 3 = 364) ?_
                refine hp_iload E hl 8 rfl dX7_names_364 (rfl : 364 + 2 = 366) ?_
                refine hp_iconst E (0 : Int32) (by decide) dX7_names_366 (rfl : 366 + 1 = 367) ?_
                obtain ⟨hc35301, h⟩ := h
                obtain ⟨hi35302, h⟩ := h
                refine hx_iast E hR hc35301 hi35302 dX7_names_367 (rfl : 367 + 1 = 368) (fun S35303 H locs e35305 hm35304 hR => ?_)
                have h := h S35303 e35305
                have hm := hp_mono.tr hm hm35304
                have ms201 := hp_mono.tr ms201 hm35304
                have ms353 := hp_mono.tr ms353 hm35304
                refine hp_iinc E hl (v11 + (1 : Int32)) 8 (lv' := [(0, hp_v B o), (1, .int a1), (2, .int v2), (3, .int v3), (4, .int v4), (5, .int v5), (6, .int v6), (7, .int v7)]) dX7_names_368 (rfl : 368 + 3 = 371) rfl (by first | rfl | (congr 1)) (by decide) rfl (fun ls hl => ?_)
                refine hp_goto E (tgt := 353) dX7_names_371 (by decide) ?_
                exact hK353 _ _ _ _ _ h (lv_sub hl [1, 2, 3, 4, 5, 6, 7, 8, 0] rfl) hR ms353
              · have h := h.2 hb
                refine hp_iconst E (0 : Int32) (by decide) dX7_names_374 (rfl : 374 + 1 = 375) ?_
                refine hp_istore E hl 11 (lv' := [(0, hp_v B o), (1, .int a1), (2, .int v2), (3, .int v3), (4, .int v4), (5, .int v5), (6, .int v6), (7, .int v7)]) dX7_names_375 (rfl : 375 + 2 = 377) (by decide) rfl (fun ls hl => ?_)
                exact b377 _ _ _ _ _ _ _ _ _ h (lv_sub hl [1, 2, 3, 4, 5, 6, 7, 8, 0] rfl) hR hm ms201
          exact key353 (μ353 v11 Sa353 + 1) v11 _ H locs ls (Nat.lt_succ_self _) hI hl hR hp_mono.rf
        have b339 : ∀ (v7 : Int32) (v9 : Int32) (v10 : Int32) (S : hp_St) (H : Heap) (locs : List Loc) (ls : Array Slot), wb_X7_names_339 o a1 v2 v3 v7 v9 v10 S K201 Q → lv_has ls 12 [(0, hp_v B o), (1, .int a1), (2, .int v2), (3, .int v3), (7, .int v7), (9, .int v9), (10, .int v10)] → hp_S B D s0 S H locs → hp_mono Si S → hp_mono Sa201 S → W p l e ({ frames := 5, cells := 0, slots := 0, locals := 320 } : Room) s m args below meth c H locs 0 0 (MQ below (hp_Qi B D s0 (fun r S' => hp_mono Si S' ∧ Q r S')) args s 0 0 (fun q => B < q)) (F0 m 339 ls []) := by
          intro v7 v9 v10 S H locs ls h hl hR hm ms201
          unfold wb_X7_names_339 at h
          refine hp_iconst E (1 : Int32) (by decide) dX7_names_339 (rfl : 339 + 1 = 340) ?_
          refine hp_istore E hl 4 (lv' := [(0, hp_v B o), (1, .int a1), (2, .int v2), (3, .int v3), (7, .int v7), (9, .int v9), (10, .int v10)]) dX7_names_340 (rfl : 340 + 2 = 342) (by decide) rfl (fun ls hl => ?_)
          refine hp_iload E hl 6 rfl dX7_names_342 (rfl : 342 + 2 = 344) ?_
          refine hp_istore E hl 5 (lv' := [(4, .int (1 : Int32)), (0, hp_v B o), (1, .int a1), (2, .int v2), (3, .int v3), (7, .int v7), (9, .int v9), (10, .int v10)]) dX7_names_344 (rfl : 344 + 2 = 346) (by decide) rfl (fun ls hl => ?_)
          refine hp_iload E hl 8 rfl dX7_names_346 (rfl : 346 + 2 = 348) ?_
          refine hp_istore E hl 6 (lv' := [(5, .int v9), (4, .int (1 : Int32)), (0, hp_v B o), (1, .int a1), (2, .int v2), (3, .int v3), (7, .int v7), (9, .int v9), (10, .int v10)]) dX7_names_348 (rfl : 348 + 2 = 350) (by decide) rfl (fun ls hl => ?_)
          refine hp_iconst E (0 : Int32) (by decide) dX7_names_350 (rfl : 350 + 1 = 351) ?_
          refine hp_istore E hl 11 (lv' := [(6, .int v10), (5, .int v9), (4, .int (1 : Int32)), (0, hp_v B o), (1, .int a1), (2, .int v2), (3, .int v3), (7, .int v7), (9, .int v9), (10, .int v10)]) dX7_names_351 (rfl : 351 + 2 = 353) (by decide) rfl (fun ls hl => ?_)
          exact b353 _ _ _ _ _ _ _ _ _ h (lv_sub hl [4, 5, 6, 7, 3, 2, 1, 8, 0] rfl) hR hm ms201
        have b222 : ∀ (v4 : Int32) (v5 : Int32) (v6 : Int32) (v7 : Int32) (v8 : Int32) (v9 : Int32) (v10 : Int32) (v11 : Int32) (S : hp_St) (H : Heap) (locs : List Loc) (ls : Array Slot), wl_X7_names_222 o a1 v2 v3 v4 v5 v6 v7 v8 v9 v10 v11 S K201 Q → lv_has ls 12 [(0, hp_v B o), (1, .int a1), (2, .int v2), (3, .int v3), (4, .int v4), (5, .int v5), (6, .int v6), (7, .int v7), (8, .int v8), (9, .int v9), (10, .int v10), (11, .int v11)] → hp_S B D s0 S H locs → hp_mono Si S → hp_mono Sa201 S → W p l e ({ frames := 5, cells := 0, slots := 0, locals := 320 } : Room) s m args below meth c H locs 0 0 (MQ below (hp_Qi B D s0 (fun r S' => hp_mono Si S' ∧ Q r S')) args s 0 0 (fun q => B < q)) (F0 m 222 ls []) := by
          intro v4 v5 v6 v7 v8 v9 v10 v11 S H locs ls h hl hR hm ms201
          obtain ⟨I222, μ222, hI, hst⟩ := h
          obtain ⟨Sa222, eSa222⟩ : ∃ x, x = S := ⟨_, rfl⟩
          subst eSa222
          have key222 : ∀ (N : Nat) (v8 : Int32) (v9 : Int32) (v10 : Int32) (v11 : Int32) (Su222 : hp_St) (H : Heap) (locs : List Loc) (ls : Array Slot), μ222 v8 v9 v10 v11 Su222 < N → I222 v8 v9 v10 v11 Su222 → lv_has ls 12 [(0, hp_v B o), (1, .int a1), (2, .int v2), (3, .int v3), (4, .int v4), (5, .int v5), (6, .int v6), (7, .int v7), (8, .int v8), (9, .int v9), (10, .int v10), (11, .int v11)] → hp_S B D s0 Su222 H locs → hp_mono Sa222 Su222 → W p l e ({ frames := 5, cells := 0, slots := 0, locals := 320 } : Room) s m args below meth c H locs 0 0 (MQ below (hp_Qi B D s0 (fun r S' => hp_mono Si S' ∧ Q r S')) args s 0 0 (fun q => B < q)) (F0 m 222 ls []) := by
            intro N
            induction N with
            | zero =>
              intro v8 v9 v10 v11 Su222 H locs ls hN
              exact absurd hN (Nat.not_lt_zero _)
            | succ N ih222 =>
              intro v8 v9 v10 v11 Su222 H locs ls hN hI hl hR ms222
              have h := hst v8 v9 v10 v11 Su222 ms222 hI
              have hm := hp_mono.tr hm ms222
              have ms201 := hp_mono.tr ms201 ms222
              obtain ⟨K222, hKe222⟩ : ∃ K : Int32 → Int32 → Int32 → Int32 → hp_St → Prop, K = (fun v8' v9' v10' v11' Sk => I222 v8' v9' v10' v11' Sk ∧ μ222 v8' v9' v10' v11' Sk < μ222 v8 v9 v10 v11 Su222) := ⟨_, rfl⟩
              rw [← hKe222] at h
              have hK222 : ∀ (v8' : Int32) (v9' : Int32) (v10' : Int32) (v11' : Int32) (Sk : hp_St) (H : Heap) (locs : List Loc) (ls : Array Slot), K222 v8' v9' v10' v11' Sk → lv_has ls 12 [(0, hp_v B o), (1, .int a1), (2, .int v2), (3, .int v3), (4, .int v4), (5, .int v5), (6, .int v6), (7, .int v7), (8, .int (v8')), (9, .int (v9')), (10, .int (v10')), (11, .int (v11'))] → hp_S B D s0 Sk H locs → hp_mono Sa222 Sk → W p l e ({ frames := 5, cells := 0, slots := 0, locals := 320 } : Room) s m args below meth c H locs 0 0 (MQ below (hp_Qi B D s0 (fun r S' => hp_mono Si S' ∧ Q r S')) args s 0 0 (fun q => B < q)) (F0 m 222 ls []) := by
                intro v8' v9' v10' v11' Sk H locs ls hI hl hR ms
                rw [hKe222] at hI
                exact ih222 v8' v9' v10' v11' Sk H locs ls (Nat.lt_of_lt_of_le hI.2 (Nat.le_of_lt_succ hN)) hI.1 hl hR ms
              unfold wb_X7_names_222 at h
              refine hp_iload E hl 11 rfl dX7_names_222 (rfl : 222 + 2 = 224) ?_
              refine hp_if_lt E dX7_names_224 (rfl : 224 + 3 = 227) (tgt := 304) (by decide) (fun hb => ?_) (fun hb => ?_)
              · have h := h.1 hb
                refine hp_iload E hl 10 rfl dX7_names_304 (rfl : 304 + 2 = 306) ?_
                refine hp_iload_n E hl 1 rfl 1 rfl dX7_names_306 (rfl : 306 + 1 = 307) ?_
                refine hp_icmp_gt E dX7_names_307 (rfl : 307 + 3 = 310) (tgt := 408) (by decide) (fun hb => ?_) (fun hb => ?_)
                · have h := h.1 hb
                  refine hp_iload E hl 4 rfl dX7_names_310 (rfl : 310 + 2 = 312) ?_
                  refine hp_if_eq E dX7_names_312 (rfl : 312 + 3 = 315) (tgt := 339) (by decide) (fun hb => ?_) (fun hb => ?_)
                  · have h := h.1 hb
                    exact b339 _ _ _ _ _ _ _ h (lv_sub hl [0, 1, 2, 3, 7, 9, 10] rfl) hR hm ms201
                  · have h := h.2 hb
                    refine hp_iload E hl 9 rfl dX7_names_315 (rfl : 315 + 2 = 317) ?_
                    refine hp_iload E hl 5 rfl dX7_names_317 (rfl : 317 + 2 = 319) ?_
                    refine hp_icmp_lt E dX7_names_319 (rfl : 319 + 3 = 322) (tgt := 408) (by decide) (fun hb => ?_) (fun hb => ?_)
                    · have h := h.1 hb
                      exact b408 _ _ _ _ _ _ _ _ h (lv_sub hl [0, 1, 2, 3, 4, 5, 6, 7] rfl) hR hm ms201
                    · have h := h.2 hb
                      refine hp_iload E hl 9 rfl dX7_names_322 (rfl : 322 + 2 = 324) ?_
                      refine hp_iload E hl 5 rfl dX7_names_324 (rfl : 324 + 2 = 326) ?_
                      refine hp_icmp_ne E dX7_names_326 (rfl : 326 + 3 = 329) (tgt := 339) (by decide) (fun hb => ?_) (fun hb => ?_)
                      · have h := h.1 hb
                        refine hp_iload E hl 10 rfl dX7_names_329 (rfl : 329 + 2 = 331) ?_
                        refine hp_iload E hl 6 rfl dX7_names_331 (rfl : 331 + 2 = 333) ?_
                        refine hp_icmp_lt E dX7_names_333 (rfl : 333 + 3 = 336) (tgt := 339) (by decide) (fun hb => ?_) (fun hb => ?_)
                        · have h := h.1 hb
                          exact b339 _ _ _ _ _ _ _ h (lv_sub hl [0, 1, 2, 3, 7, 9, 10] rfl) hR hm ms201
                        · have h := h.2 hb
                          refine hp_goto E (tgt := 408) dX7_names_336 (by decide) ?_
                          exact b408 _ _ _ _ _ _ _ _ h (lv_sub hl [0, 1, 2, 3, 4, 5, 6, 7] rfl) hR hm ms201
                      · have h := h.2 hb
                        exact b339 _ _ _ _ _ _ _ h (lv_sub hl [0, 1, 2, 3, 7, 9, 10] rfl) hR hm ms201
                · have h := h.2 hb
                  exact b408 _ _ _ _ _ _ _ _ h (lv_sub hl [0, 1, 2, 3, 4, 5, 6, 7] rfl) hR hm ms201
              · have h := h.2 hb
                refine hp_aload_n E hl 0 rfl 0 rfl dX7_names_227 (rfl : 227 + 1 = 228) ?_
                refine hp_getR E hR in_X7 (hp_mono.c hm hc0) rfl 54 (Nat.le_of_ble_eq_true rfl) rfl q1315 (fun _ h => h) dX7_names_228 (rfl : 228 + 3 = 231) ?_
                refine hp_iload E hl 11 rfl dX7_names_231 (rfl : 231 + 2 = 233) ?_
                refine hp_iload E hl 8 rfl dX7_names_233 (rfl : 233 + 2 = 235) ?_
                refine hp_aload_n E hl 0 rfl 0 rfl dX7_names_235 (rfl : 235 + 1 = 236) ?_
                refine hp_getR E hR in_X7 (hp_mono.c hm hc0) rfl 40 (Nat.le_of_ble_eq_true rfl) rfl q1301 (fun _ h => h) dX7_names_236 (rfl : 236 + 3 = 239) ?_
                refine hp_iconst E (3 : Int32) (by decide) dX7_names_239 (rfl : 239 + 1 = 240) ?_
                obtain ⟨hc22201, h⟩ := h
                obtain ⟨hi22202, h⟩ := h
                refine hp_iald E hR hc22201 hi22202 dX7_names_240 (rfl : 240 + 1 = 241) ?_
                refine hp_iconst E (1 : Int32) (by decide) dX7_names_241 (rfl : 241 + 1 = 242) ?_
                refine hp_iadd E dX7_names_242 (rfl : 242 + 1 = 243) ?_
                obtain ⟨hz22203, h⟩ := h
                refine hp_irem E hz22203 dX7_names_243 (rfl : 243 + 1 = 244) ?_
                obtain ⟨hc22204, h⟩ := h
                obtain ⟨hi22205, h⟩ := h
                refine hx_iast E hR hc22204 hi22205 dX7_names_244 (rfl : 244 + 1 = 245) (fun S22206 H locs e22208 hm22207 hR => ?_)
                have h := h S22206 e22208
                have hm := hp_mono.tr hm hm22207
                have ms201 := hp_mono.tr ms201 hm22207
                have ms222 := hp_mono.tr ms222 hm22207
                refine hp_iload E hl 8 rfl dX7_names_245 (rfl : 245 + 2 = 247) ?_
                refine hp_aload_n E hl 0 rfl 0 rfl dX7_names_247 (rfl : 247 + 1 = 248) ?_
                refine hp_getR E hR in_X7 (hp_mono.c hm hc0) rfl 40 (Nat.le_of_ble_eq_true rfl) rfl q1301 (fun _ h => h) dX7_names_248 (rfl : 248 + 3 = 251) ?_
                refine hp_iconst E (3 : Int32) (by decide) dX7_names_251 (rfl : 251 + 1 = 252) ?_
                obtain ⟨hc22209, h⟩ := h
                obtain ⟨hi22210, h⟩ := h
                refine hp_iald E hR hc22209 hi22210 dX7_names_252 (rfl : 252 + 1 = 253) ?_
                refine hp_iconst E (1 : Int32) (by decide) dX7_names_253 (rfl : 253 + 1 = 254) ?_
                refine hp_iadd E dX7_names_254 (rfl : 254 + 1 = 255) ?_
                obtain ⟨hz22211, h⟩ := h
                refine hp_idiv E hz22211 dX7_names_255 (rfl : 255 + 1 = 256) ?_
                refine hp_istore E hl 8 (lv' := [(0, hp_v B o), (1, .int a1), (2, .int v2), (3, .int v3), (4, .int v4), (5, .int v5), (6, .int v6), (7, .int v7), (9, .int v9), (10, .int v10), (11, .int v11)]) dX7_names_256 (rfl : 256 + 2 = 258) (by decide) rfl (fun ls hl => ?_)
                refine hp_iload E hl 9 rfl dX7_names_258 (rfl : 258 + 2 = 260) ?_
                refine hp_aload_n E hl 0 rfl 1 rfl dX7_names_260 (rfl : 260 + 1 = 261) ?_
                refine hp_getR E hR in_X7 (hp_mono.c hm hc0) rfl 54 (Nat.le_of_ble_eq_true rfl) rfl q1315 (fun _ h => h) dX7_names_261 (rfl : 261 + 3 = 264) ?_
                refine hp_iload E hl 11 rfl dX7_names_264 (rfl : 264 + 2 = 266) ?_
                obtain ⟨hc22212, h⟩ := h
                obtain ⟨hi22213, h⟩ := h
                refine hp_iald E hR hc22212 hi22213 dX7_names_266 (rfl : 266 + 1 = 267) ?_
                refine hp_aload_n E hl 0 rfl 1 rfl dX7_names_267 (rfl : 267 + 1 = 268) ?_
                refine hp_getR E hR in_X7 (hp_mono.c hm hc0) rfl 56 (Nat.le_of_ble_eq_true rfl) rfl q1317 (fun _ h => h) dX7_names_268 (rfl : 268 + 3 = 271) ?_
                refine hp_iload E hl 11 rfl dX7_names_271 (rfl : 271 + 2 = 273) ?_
                obtain ⟨hc22214, h⟩ := h
                obtain ⟨hi22215, h⟩ := h
                refine hp_iald E hR hc22214 hi22215 dX7_names_273 (rfl : 273 + 1 = 274) ?_
                refine hp_imul E dX7_names_274 (rfl : 274 + 1 = 275) ?_
                refine hp_iadd E dX7_names_275 (rfl : 275 + 1 = 276) ?_
                refine hp_istore E hl 9 (lv' := [(8, .int (v8 / ((st_I S22206 (st_R S22206 o 40) (3 : Int32).toNatClampNeg) + (1 : Int32)))), (0, hp_v B o), (1, .int a1), (2, .int v2), (3, .int v3), (4, .int v4), (5, .int v5), (6, .int v6), (7, .int v7), (10, .int v10), (11, .int v11)]) dX7_names_276 (rfl : 276 + 2 = 278) (by decide) rfl (fun ls hl => ?_)
                refine hp_iload E hl 10 rfl dX7_names_278 (rfl : 278 + 2 = 280) ?_
                refine hp_aload_n E hl 0 rfl 2 rfl dX7_names_280 (rfl : 280 + 1 = 281) ?_
                refine hp_getR E hR in_X7 (hp_mono.c hm hc0) rfl 54 (Nat.le_of_ble_eq_true rfl) rfl q1315 (fun _ h => h) dX7_names_281 (rfl : 281 + 3 = 284) ?_
                refine hp_iload E hl 11 rfl dX7_names_284 (rfl : 284 + 2 = 286) ?_
                obtain ⟨hi22216, h⟩ := h
                refine hp_iald E hR hc22212 hi22216 dX7_names_286 (rfl : 286 + 1 = 287) ?_
                refine hp_aload_n E hl 0 rfl 2 rfl dX7_names_287 (rfl : 287 + 1 = 288) ?_
                refine hp_getR E hR in_X7 (hp_mono.c hm hc0) rfl 57 (Nat.le_of_ble_eq_true rfl) rfl q1318 (fun _ h => h) dX7_names_288 (rfl : 288 + 3 = 291) ?_
                refine hp_iload E hl 11 rfl dX7_names_291 (rfl : 291 + 2 = 293) ?_
                obtain ⟨hc22217, h⟩ := h
                obtain ⟨hi22218, h⟩ := h
                refine hp_iald E hR hc22217 hi22218 dX7_names_293 (rfl : 293 + 1 = 294) ?_
                refine hp_imul E dX7_names_294 (rfl : 294 + 1 = 295) ?_
                refine hp_iadd E dX7_names_295 (rfl : 295 + 1 = 296) ?_
                refine hp_istore E hl 10 (lv' := [(9, .int (v9 + ((st_I S22206 (st_R S22206 o 54) v11.toNatClampNeg) * (st_I S22206 (st_R S22206 o 56) v11.toNatClampNeg)))), (8, .int (v8 / ((st_I S22206 (st_R S22206 o 40) (3 : Int32).toNatClampNeg) + (1 : Int32)))), (0, hp_v B o), (1, .int a1), (2, .int v2), (3, .int v3), (4, .int v4), (5, .int v5), (6, .int v6), (7, .int v7), (11, .int v11)]) dX7_names_296 (rfl : 296 + 2 = 298) (by decide) rfl (fun ls hl => ?_)
                refine hp_iinc E hl (v11 + (-1 : Int32)) 11 (lv' := [(10, .int (v10 + ((st_I S22206 (st_R S22206 o 54) v11.toNatClampNeg) * (st_I S22206 (st_R S22206 o 57) v11.toNatClampNeg)))), (9, .int (v9 + ((st_I S22206 (st_R S22206 o 54) v11.toNatClampNeg) * (st_I S22206 (st_R S22206 o 56) v11.toNatClampNeg)))), (8, .int (v8 / ((st_I S22206 (st_R S22206 o 40) (3 : Int32).toNatClampNeg) + (1 : Int32)))), (0, hp_v B o), (1, .int a1), (2, .int v2), (3, .int v3), (4, .int v4), (5, .int v5), (6, .int v6), (7, .int v7)]) dX7_names_298 (rfl : 298 + 3 = 301) rfl (by first | rfl | (congr 1)) (by decide) rfl (fun ls hl => ?_)
                refine hp_goto E (tgt := 222) dX7_names_301 (by decide) ?_
                exact hK222 _ _ _ _ _ _ _ _ h (lv_sub hl [4, 5, 6, 7, 8, 9, 10, 11, 3, 2, 1, 0] rfl) hR ms222
          exact key222 (μ222 v8 v9 v10 v11 Sa222 + 1) v8 v9 v10 v11 _ H locs ls (Nat.lt_succ_self _) hI hl hR hp_mono.rf
        unfold wb_X7_names_201 at h
        refine hp_iload E hl 7 rfl dX7_names_201 (rfl : 201 + 2 = 203) ?_
        refine hp_iload_n E hl 3 rfl 3 rfl dX7_names_203 (rfl : 203 + 1 = 204) ?_
        refine hp_icmp_ge E dX7_names_204 (rfl : 204 + 3 = 207) (tgt := 414) (by decide) (fun hb => ?_) (fun hb => ?_)
        · have h := h.1 hb
          refine hp_iload E hl 7 rfl dX7_names_207 (rfl : 207 + 2 = 209) ?_
          refine hp_istore E hl 8 (lv' := [(0, hp_v B o), (1, .int a1), (2, .int v2), (3, .int v3), (4, .int v4), (5, .int v5), (6, .int v6), (7, .int v7)]) dX7_names_209 (rfl : 209 + 2 = 211) (by decide) rfl (fun ls hl => ?_)
          refine hp_iconst E (0 : Int32) (by decide) dX7_names_211 (rfl : 211 + 1 = 212) ?_
          refine hp_istore E hl 9 (lv' := [(8, .int v7), (0, hp_v B o), (1, .int a1), (2, .int v2), (3, .int v3), (4, .int v4), (5, .int v5), (6, .int v6), (7, .int v7)]) dX7_names_212 (rfl : 212 + 2 = 214) (by decide) rfl (fun ls hl => ?_)
          refine hp_iconst E (0 : Int32) (by decide) dX7_names_214 (rfl : 214 + 1 = 215) ?_
          refine hp_istore E hl 10 (lv' := [(9, .int (0 : Int32)), (8, .int v7), (0, hp_v B o), (1, .int a1), (2, .int v2), (3, .int v3), (4, .int v4), (5, .int v5), (6, .int v6), (7, .int v7)]) dX7_names_215 (rfl : 215 + 2 = 217) (by decide) rfl (fun ls hl => ?_)
          refine hp_iload_n E hl 2 rfl 5 rfl dX7_names_217 (rfl : 217 + 1 = 218) ?_
          refine hp_iconst E (1 : Int32) (by decide) dX7_names_218 (rfl : 218 + 1 = 219) ?_
          refine hp_isub E dX7_names_219 (rfl : 219 + 1 = 220) ?_
          refine hp_istore E hl 11 (lv' := [(10, .int (0 : Int32)), (9, .int (0 : Int32)), (8, .int v7), (0, hp_v B o), (1, .int a1), (2, .int v2), (3, .int v3), (4, .int v4), (5, .int v5), (6, .int v6), (7, .int v7)]) dX7_names_220 (rfl : 220 + 2 = 222) (by decide) rfl (fun ls hl => ?_)
          exact b222 _ _ _ _ _ _ _ _ _ _ _ _ h (lv_sub hl [4, 5, 6, 7, 8, 9, 10, 11, 3, 2, 1, 0] rfl) hR hm ms201
        · have h := h.2 hb
          refine hp_aload_n E hl 0 rfl 0 rfl dX7_names_414 (rfl : 414 + 1 = 415) ?_
          refine hp_iconst E (1 : Int32) (by decide) dX7_names_415 (rfl : 415 + 1 = 416) ?_
          refine hx_putI E hR in_X7 tyX7 tyX7_ok nmX7 (hp_mono.c hm hc0) rfl 52 (Nat.le_of_ble_eq_true rfl) rfl q1313 (fun _ h => h) (Or.inl rfl) (Or.inr ⟨rfl, (Or.inr rfl)⟩) dX7_names_416 (rfl : 416 + 3 = 419) (fun S20101 H locs e20103 hm20102 hR => ?_)
          have h := h S20101 e20103
          have hm := hp_mono.tr hm hm20102
          have ms201 := hp_mono.tr ms201 hm20102
          refine hp_iload E hl 5 rfl dX7_names_419 (rfl : 419 + 2 = 421) ?_
          exact hp_iret E hR ⟨hm, h⟩ (Nat.le_of_ble_eq_true rfl) (Nat.le_of_ble_eq_true rfl) dX7_names_421
    exact key201 (μ201 v4 v5 v6 v7 Sa201 + 1) v4 v5 v6 v7 _ H locs ls (Nat.lt_succ_self _) hI hl hR hp_mono.rf
  have b126 : ∀ (v2 : Int32) (v3 : Int32) (v4 : Int32) (S : hp_St) (H : Heap) (locs : List Loc) (ls : Array Slot), wl_X7_names_126 o a1 v2 v3 v4 S Q → lv_has ls 12 [(0, hp_v B o), (1, .int a1), (2, .int v2), (3, .int v3), (4, .int v4)] → hp_S B D s0 S H locs → hp_mono Si S → W p l e ({ frames := 5, cells := 0, slots := 0, locals := 320 } : Room) s m args below meth c H locs 0 0 (MQ below (hp_Qi B D s0 (fun r S' => hp_mono Si S' ∧ Q r S')) args s 0 0 (fun q => B < q)) (F0 m 126 ls []) := by
    intro v2 v3 v4 S H locs ls h hl hR hm
    obtain ⟨I126, μ126, hI, hst⟩ := h
    obtain ⟨Sa126, eSa126⟩ : ∃ x, x = S := ⟨_, rfl⟩
    subst eSa126
    have key126 : ∀ (N : Nat) (v4 : Int32) (Su126 : hp_St) (H : Heap) (locs : List Loc) (ls : Array Slot), μ126 v4 Su126 < N → I126 v4 Su126 → lv_has ls 12 [(0, hp_v B o), (1, .int a1), (2, .int v2), (3, .int v3), (4, .int v4)] → hp_S B D s0 Su126 H locs → hp_mono Sa126 Su126 → W p l e ({ frames := 5, cells := 0, slots := 0, locals := 320 } : Room) s m args below meth c H locs 0 0 (MQ below (hp_Qi B D s0 (fun r S' => hp_mono Si S' ∧ Q r S')) args s 0 0 (fun q => B < q)) (F0 m 126 ls []) := by
      intro N
      induction N with
      | zero =>
        intro v4 Su126 H locs ls hN
        exact absurd hN (Nat.not_lt_zero _)
      | succ N ih126 =>
        intro v4 Su126 H locs ls hN hI hl hR ms126
        have h := hst v4 Su126 ms126 hI
        have hm := hp_mono.tr hm ms126
        obtain ⟨K126, hKe126⟩ : ∃ K : Int32 → hp_St → Prop, K = (fun v4' Sk => I126 v4' Sk ∧ μ126 v4' Sk < μ126 v4 Su126) := ⟨_, rfl⟩
        rw [← hKe126] at h
        have hK126 : ∀ (v4' : Int32) (Sk : hp_St) (H : Heap) (locs : List Loc) (ls : Array Slot), K126 v4' Sk → lv_has ls 12 [(0, hp_v B o), (1, .int a1), (2, .int v2), (3, .int v3), (4, .int (v4'))] → hp_S B D s0 Sk H locs → hp_mono Sa126 Sk → W p l e ({ frames := 5, cells := 0, slots := 0, locals := 320 } : Room) s m args below meth c H locs 0 0 (MQ below (hp_Qi B D s0 (fun r S' => hp_mono Si S' ∧ Q r S')) args s 0 0 (fun q => B < q)) (F0 m 126 ls []) := by
          intro v4' Sk H locs ls hI hl hR ms
          rw [hKe126] at hI
          exact ih126 v4' Sk H locs ls (Nat.lt_of_lt_of_le hI.2 (Nat.le_of_lt_succ hN)) hI.1 hl hR ms
        unfold wb_X7_names_126 at h
        refine hp_iload E hl 4 rfl dX7_names_126 (rfl : 126 + 2 = 128) ?_
        refine hp_iload_n E hl 2 rfl 2 rfl dX7_names_128 (rfl : 128 + 1 = 129) ?_
        refine hp_icmp_ge E dX7_names_129 (rfl : 129 + 3 = 132) (tgt := 189) (by decide) (fun hb => ?_) (fun hb => ?_)
        · have h := h.1 hb
          refine hp_aload_n E hl 0 rfl 0 rfl dX7_names_132 (rfl : 132 + 1 = 133) ?_
          refine hp_getR E hR in_X7 (hp_mono.c hm hc0) rfl 57 (Nat.le_of_ble_eq_true rfl) rfl q1318 (fun _ h => h) dX7_names_133 (rfl : 133 + 3 = 136) ?_
          refine hp_iload E hl 4 rfl dX7_names_136 (rfl : 136 + 2 = 138) ?_
          refine hp_aload_n E hl 0 rfl 0 rfl dX7_names_138 (rfl : 138 + 1 = 139) ?_
          refine hp_aload_n E hl 0 rfl 0 rfl dX7_names_139 (rfl : 139 + 1 = 140) ?_
          refine hp_getR E hR in_X7 (hp_mono.c hm hc0) rfl 55 (Nat.le_of_ble_eq_true rfl) rfl q1316 (fun _ h => h) dX7_names_140 (rfl : 140 + 3 = 143) ?_
          refine hp_iload E hl 4 rfl dX7_names_143 (rfl : 143 + 2 = 145) ?_
          obtain ⟨hc12601, h⟩ := h
          obtain ⟨hi12602, h⟩ := h
          refine hp_iald E hR hc12601 hi12602 dX7_names_145 (rfl : 145 + 1 = 146) ?_
          refine hp_iconst E (-1 : Int32) (by decide) dX7_names_146 (rfl : 146 + 1 = 147) ?_
          refine hp_fi (hp_rV E hR hl (m_X7_priceOf G _ _ _ _ _ (hp_mono.c hm hc0) h) (hp_mono.c hm hc0) (ci := 6) rfl rfl q1531 q1533 qs48 q82 q1534 nf_X7_priceOf ⟨Nat.le_of_ble_eq_true rfl, Nat.le_of_ble_eq_true rfl⟩ (rest := [.int v4, hp_v B (st_R Su126 o 57)]) rfl (Nat.le_of_ble_eq_true rfl) dX7_names_147 ⟨Nat.le_of_ble_eq_true rfl, Nat.le_of_ble_eq_true rfl⟩) hR (rfl : 147 + 3 = 150) (fun z12603 Sx H locs hq hR => ?_)
          obtain ⟨hSx, h⟩ := hq
          rw [hSx] at hR
          obtain ⟨hc12604, h⟩ := h
          obtain ⟨hi12605, h⟩ := h
          refine hx_iast E hR hc12604 hi12605 dX7_names_150 (rfl : 150 + 1 = 151) (fun S12606 H locs e12608 hm12607 hR => ?_)
          have h := h S12606 e12608
          have hm := hp_mono.tr hm hm12607
          have ms126 := hp_mono.tr ms126 hm12607
          refine hp_aload_n E hl 0 rfl 0 rfl dX7_names_151 (rfl : 151 + 1 = 152) ?_
          refine hp_getR E hR in_X7 (hp_mono.c hm hc0) rfl 56 (Nat.le_of_ble_eq_true rfl) rfl q1317 (fun _ h => h) dX7_names_152 (rfl : 152 + 3 = 155) ?_
          refine hp_iload E hl 4 rfl dX7_names_155 (rfl : 155 + 2 = 157) ?_
          refine hp_iconst E (2 : Int32) (by decide) dX7_names_157 (rfl : 157 + 1 = 158) ?_
          refine hp_aload_n E hl 0 rfl 0 rfl dX7_names_158 (rfl : 158 + 1 = 159) ?_
          refine hp_aload_n E hl 0 rfl 0 rfl dX7_names_159 (rfl : 159 + 1 = 160) ?_
          refine hp_getR E hR in_X7 (hp_mono.c hm hc0) rfl 55 (Nat.le_of_ble_eq_true rfl) rfl q1316 (fun _ h => h) dX7_names_160 (rfl : 160 + 3 = 163) ?_
          refine hp_iload E hl 4 rfl dX7_names_163 (rfl : 163 + 2 = 165) ?_
          obtain ⟨hc12609, h⟩ := h
          obtain ⟨hi12610, h⟩ := h
          refine hp_iald E hR hc12609 hi12610 dX7_names_165 (rfl : 165 + 1 = 166) ?_
          refine hp_fi (hp_rV E hR hl (m_X7_worthOf G _ _ _ _ (hp_mono.c hm hc0) h) (hp_mono.c hm hc0) (ci := 6) rfl rfl q1661 q1663 qs65 q82 q1664 nf_X7_worthOf ⟨Nat.le_of_ble_eq_true rfl, Nat.le_of_ble_eq_true rfl⟩ (rest := [.int (2 : Int32), .int v4, hp_v B (st_R S12606 o 56)]) rfl (Nat.le_of_ble_eq_true rfl) dX7_names_166 ⟨Nat.le_of_ble_eq_true rfl, Nat.le_of_ble_eq_true rfl⟩) hR (rfl : 166 + 3 = 169) (fun z12611 Sx H locs hq hR => ?_)
          obtain ⟨hSx, h⟩ := hq
          rw [hSx] at hR
          refine hp_imul E dX7_names_169 (rfl : 169 + 1 = 170) ?_
          refine hp_sipush E (1000 : Int32) (by decide) dX7_names_170 (rfl : 170 + 3 = 173) ?_
          refine hp_aload_n E hl 0 rfl 0 rfl dX7_names_173 (rfl : 173 + 1 = 174) ?_
          refine hp_getR E hR in_X7 (hp_mono.c hm hc0) rfl 57 (Nat.le_of_ble_eq_true rfl) rfl q1318 (fun _ h => h) dX7_names_174 (rfl : 174 + 3 = 177) ?_
          refine hp_iload E hl 4 rfl dX7_names_177 (rfl : 177 + 2 = 179) ?_
          obtain ⟨hc12612, h⟩ := h
          obtain ⟨hi12613, h⟩ := h
          refine hp_iald E hR hc12612 hi12613 dX7_names_179 (rfl : 179 + 1 = 180) ?_
          refine hp_imul E dX7_names_180 (rfl : 180 + 1 = 181) ?_
          refine hp_isub E dX7_names_181 (rfl : 181 + 1 = 182) ?_
          obtain ⟨hc12614, h⟩ := h
          obtain ⟨hi12615, h⟩ := h
          refine hx_iast E hR hc12614 hi12615 dX7_names_182 (rfl : 182 + 1 = 183) (fun S12616 H locs e12618 hm12617 hR => ?_)
          have h := h S12616 e12618
          have hm := hp_mono.tr hm hm12617
          have ms126 := hp_mono.tr ms126 hm12617
          refine hp_iinc E hl (v4 + (1 : Int32)) 4 (lv' := [(0, hp_v B o), (1, .int a1), (2, .int v2), (3, .int v3)]) dX7_names_183 (rfl : 183 + 3 = 186) rfl (by first | rfl | (congr 1)) (by decide) rfl (fun ls hl => ?_)
          refine hp_goto E (tgt := 126) dX7_names_186 (by decide) ?_
          exact hK126 _ _ _ _ _ h (lv_sub hl [1, 2, 3, 4, 0] rfl) hR ms126
        · have h := h.2 hb
          refine hp_iconst E (0 : Int32) (by decide) dX7_names_189 (rfl : 189 + 1 = 190) ?_
          refine hp_istore E hl 4 (lv' := [(0, hp_v B o), (1, .int a1), (2, .int v2), (3, .int v3)]) dX7_names_190 (rfl : 190 + 2 = 192) (by decide) rfl (fun ls hl => ?_)
          refine hp_iconst E (0 : Int32) (by decide) dX7_names_192 (rfl : 192 + 1 = 193) ?_
          refine hp_istore E hl 5 (lv' := [(4, .int (0 : Int32)), (0, hp_v B o), (1, .int a1), (2, .int v2), (3, .int v3)]) dX7_names_193 (rfl : 193 + 2 = 195) (by decide) rfl (fun ls hl => ?_)
          refine hp_iconst E (0 : Int32) (by decide) dX7_names_195 (rfl : 195 + 1 = 196) ?_
          refine hp_istore E hl 6 (lv' := [(5, .int (0 : Int32)), (4, .int (0 : Int32)), (0, hp_v B o), (1, .int a1), (2, .int v2), (3, .int v3)]) dX7_names_196 (rfl : 196 + 2 = 198) (by decide) rfl (fun ls hl => ?_)
          refine hp_iconst E (0 : Int32) (by decide) dX7_names_198 (rfl : 198 + 1 = 199) ?_
          refine hp_istore E hl 7 (lv' := [(6, .int (0 : Int32)), (5, .int (0 : Int32)), (4, .int (0 : Int32)), (0, hp_v B o), (1, .int a1), (2, .int v2), (3, .int v3)]) dX7_names_199 (rfl : 199 + 2 = 201) (by decide) rfl (fun ls hl => ?_)
          exact b201 _ _ _ _ _ _ _ _ _ _ h (lv_sub hl [4, 5, 6, 7, 3, 2, 1, 0] rfl) hR hm
    exact key126 (μ126 v4 Sa126 + 1) v4 _ H locs ls (Nat.lt_succ_self _) hI hl hR hp_mono.rf
  have b35 : ∀ (v2 : Int32) (v3 : Int32) (v4 : Int32) (S : hp_St) (H : Heap) (locs : List Loc) (ls : Array Slot), wl_X7_names_35 o a1 v2 v3 v4 S Q → lv_has ls 12 [(0, hp_v B o), (1, .int a1), (2, .int v2), (3, .int v3), (4, .int v4)] → hp_S B D s0 S H locs → hp_mono Si S → W p l e ({ frames := 5, cells := 0, slots := 0, locals := 320 } : Room) s m args below meth c H locs 0 0 (MQ below (hp_Qi B D s0 (fun r S' => hp_mono Si S' ∧ Q r S')) args s 0 0 (fun q => B < q)) (F0 m 35 ls []) := by
    intro v2 v3 v4 S H locs ls h hl hR hm
    obtain ⟨I35, μ35, hI, hst⟩ := h
    obtain ⟨Sa35, eSa35⟩ : ∃ x, x = S := ⟨_, rfl⟩
    subst eSa35
    have key35 : ∀ (N : Nat) (v2 : Int32) (v3 : Int32) (v4 : Int32) (Su35 : hp_St) (H : Heap) (locs : List Loc) (ls : Array Slot), μ35 v2 v3 v4 Su35 < N → I35 v2 v3 v4 Su35 → lv_has ls 12 [(0, hp_v B o), (1, .int a1), (2, .int v2), (3, .int v3), (4, .int v4)] → hp_S B D s0 Su35 H locs → hp_mono Sa35 Su35 → W p l e ({ frames := 5, cells := 0, slots := 0, locals := 320 } : Room) s m args below meth c H locs 0 0 (MQ below (hp_Qi B D s0 (fun r S' => hp_mono Si S' ∧ Q r S')) args s 0 0 (fun q => B < q)) (F0 m 35 ls []) := by
      intro N
      induction N with
      | zero =>
        intro v2 v3 v4 Su35 H locs ls hN
        exact absurd hN (Nat.not_lt_zero _)
      | succ N ih35 =>
        intro v2 v3 v4 Su35 H locs ls hN hI hl hR ms35
        have h := hst v2 v3 v4 Su35 ms35 hI
        have hm := hp_mono.tr hm ms35
        obtain ⟨K35, hKe35⟩ : ∃ K : Int32 → Int32 → Int32 → hp_St → Prop, K = (fun v2' v3' v4' Sk => I35 v2' v3' v4' Sk ∧ μ35 v2' v3' v4' Sk < μ35 v2 v3 v4 Su35) := ⟨_, rfl⟩
        rw [← hKe35] at h
        have hK35 : ∀ (v2' : Int32) (v3' : Int32) (v4' : Int32) (Sk : hp_St) (H : Heap) (locs : List Loc) (ls : Array Slot), K35 v2' v3' v4' Sk → lv_has ls 12 [(0, hp_v B o), (1, .int a1), (2, .int (v2')), (3, .int (v3')), (4, .int (v4'))] → hp_S B D s0 Sk H locs → hp_mono Sa35 Sk → W p l e ({ frames := 5, cells := 0, slots := 0, locals := 320 } : Room) s m args below meth c H locs 0 0 (MQ below (hp_Qi B D s0 (fun r S' => hp_mono Si S' ∧ Q r S')) args s 0 0 (fun q => B < q)) (F0 m 35 ls []) := by
          intro v2' v3' v4' Sk H locs ls hI hl hR ms
          rw [hKe35] at hI
          exact ih35 v2' v3' v4' Sk H locs ls (Nat.lt_of_lt_of_le hI.2 (Nat.le_of_lt_succ hN)) hI.1 hl hR ms
        have b101 : ∀ (v2 : Int32) (v3 : Int32) (v4 : Int32) (S : hp_St) (H : Heap) (locs : List Loc) (ls : Array Slot), wb_X7_names_101 o a1 v2 v3 v4 S K35 Q → lv_has ls 12 [(0, hp_v B o), (1, .int a1), (2, .int v2), (3, .int v3), (4, .int v4)] → hp_S B D s0 S H locs → hp_mono Si S → hp_mono Sa35 S → W p l e ({ frames := 5, cells := 0, slots := 0, locals := 320 } : Room) s m args below meth c H locs 0 0 (MQ below (hp_Qi B D s0 (fun r S' => hp_mono Si S' ∧ Q r S')) args s 0 0 (fun q => B < q)) (F0 m 101 ls []) := by
          intro v2 v3 v4 S H locs ls h hl hR hm ms35
          unfold wb_X7_names_101 at h
          refine hp_iinc E hl (v4 + (1 : Int32)) 4 (lv' := [(0, hp_v B o), (1, .int a1), (2, .int v2), (3, .int v3)]) dX7_names_101 (rfl : 101 + 3 = 104) rfl (by first | rfl | (congr 1)) (by decide) rfl (fun ls hl => ?_)
          refine hp_goto E (tgt := 35) dX7_names_104 (by decide) ?_
          exact hK35 _ _ _ _ _ _ _ h (lv_sub hl [1, 2, 3, 4, 0] rfl) hR ms35
        have b100 : ∀ (v2 : Int32) (v4 : Int32) (t0 : Int32) (S : hp_St) (H : Heap) (locs : List Loc) (ls : Array Slot), wb_X7_names_100 o a1 v2 v4 t0 S K35 Q → lv_has ls 12 [(0, hp_v B o), (1, .int a1), (2, .int v2), (4, .int v4)] → hp_S B D s0 S H locs → hp_mono Si S → hp_mono Sa35 S → W p l e ({ frames := 5, cells := 0, slots := 0, locals := 320 } : Room) s m args below meth c H locs 0 0 (MQ below (hp_Qi B D s0 (fun r S' => hp_mono Si S' ∧ Q r S')) args s 0 0 (fun q => B < q)) (F0 m 100 ls [.int t0]) := by
          intro v2 v4 t0 S H locs ls h hl hR hm ms35
          unfold wb_X7_names_100 at h
          refine hp_istore_n E hl 3 rfl (lv' := [(0, hp_v B o), (1, .int a1), (2, .int v2), (4, .int v4)]) dX7_names_100 (rfl : 100 + 1 = 101) (by decide) rfl (fun ls hl => ?_)
          exact b101 _ _ _ _ _ _ _ h (lv_sub hl [1, 2, 3, 0, 4] rfl) hR hm ms35
        unfold wb_X7_names_35 at h
        refine hp_iload E hl 4 rfl dX7_names_35 (rfl : 35 + 2 = 37) ?_
        refine hp_aload_n E hl 0 rfl 0 rfl dX7_names_37 (rfl : 37 + 1 = 38) ?_
        refine hp_getI E hR in_X7 (hp_mono.c hm hc0) rfl 4 (Nat.le_of_ble_eq_true rfl) rfl q1265 (fun _ h => h) dX7_names_38 (rfl : 38 + 3 = 41) ?_
        refine hp_icmp_ge E dX7_names_41 (rfl : 41 + 3 = 44) (tgt := 107) (by decide) (fun hb => ?_) (fun hb => ?_)
        · have h := h.1 hb
          refine hp_aload_n E hl 0 rfl 0 rfl dX7_names_44 (rfl : 44 + 1 = 45) ?_
          refine hp_getR E hR in_X7 (hp_mono.c hm hc0) rfl 45 (Nat.le_of_ble_eq_true rfl) rfl q1306 (fun _ h => h) dX7_names_45 (rfl : 45 + 3 = 48) ?_
          refine hp_iload E hl 4 rfl dX7_names_48 (rfl : 48 + 2 = 50) ?_
          obtain ⟨hc3501, h⟩ := h
          obtain ⟨hi3502, h⟩ := h
          refine hp_iald E hR hc3501 hi3502 dX7_names_50 (rfl : 50 + 1 = 51) ?_
          refine hp_iconst E (-1 : Int32) (by decide) dX7_names_51 (rfl : 51 + 1 = 52) ?_
          refine hp_icmp_ne E dX7_names_52 (rfl : 52 + 3 = 55) (tgt := 101) (by decide) (fun hb => ?_) (fun hb => ?_)
          · have h := h.1 hb
            refine hp_aload_n E hl 0 rfl 0 rfl dX7_names_55 (rfl : 55 + 1 = 56) ?_
            refine hp_iload E hl 4 rfl dX7_names_56 (rfl : 56 + 2 = 58) ?_
            refine hp_iconst E (-1 : Int32) (by decide) dX7_names_58 (rfl : 58 + 1 = 59) ?_
            refine hp_fi (hp_rV E hR hl (m_X7_mayBe G _ _ _ _ _ (hp_mono.c hm hc0) h) (hp_mono.c hm hc0) (ci := 6) rfl rfl q1519 q1521 qs45 q82 q1522 nf_X7_mayBe ⟨Nat.le_of_ble_eq_true rfl, Nat.le_of_ble_eq_true rfl⟩ (rest := []) rfl (Nat.le_of_ble_eq_true rfl) dX7_names_59 ⟨Nat.le_of_ble_eq_true rfl, Nat.le_of_ble_eq_true rfl⟩) hR (rfl : 59 + 3 = 62) (fun z3503 Sx H locs hq hR => ?_)
            obtain ⟨hSx, h⟩ := hq
            rw [hSx] at hR
            refine hp_if_ne E dX7_names_62 (rfl : 62 + 3 = 65) (tgt := 68) (by decide) (fun hb => ?_) (fun hb => ?_)
            · have h := h.1 hb
              refine hp_goto E (tgt := 101) dX7_names_65 (by decide) ?_
              exact b101 _ _ _ _ _ _ _ h hl hR hm ms35
            · have h := h.2 hb
              refine hp_aload_n E hl 0 rfl 0 rfl dX7_names_68 (rfl : 68 + 1 = 69) ?_
              refine hp_getR E hR in_X7 (hp_mono.c hm hc0) rfl 55 (Nat.le_of_ble_eq_true rfl) rfl q1316 (fun _ h => h) dX7_names_69 (rfl : 69 + 3 = 72) ?_
              refine hp_iload_n E hl 2 rfl 2 rfl dX7_names_72 (rfl : 72 + 1 = 73) ?_
              refine hp_iload E hl 4 rfl dX7_names_73 (rfl : 73 + 2 = 75) ?_
              obtain ⟨hc3504, h⟩ := h
              obtain ⟨hi3505, h⟩ := h
              refine hx_iast E hR hc3504 hi3505 dX7_names_75 (rfl : 75 + 1 = 76) (fun S3506 H locs e3508 hm3507 hR => ?_)
              have h := h S3506 e3508
              have hm := hp_mono.tr hm hm3507
              have ms35 := hp_mono.tr ms35 hm3507
              refine hp_iinc E hl (v2 + (1 : Int32)) 2 (lv' := [(0, hp_v B o), (1, .int a1), (3, .int v3), (4, .int v4)]) dX7_names_76 (rfl : 76 + 3 = 79) rfl (by first | rfl | (congr 1)) (by decide) rfl (fun ls hl => ?_)
              refine hp_iload_n E hl 3 rfl 3 rfl dX7_names_79 (rfl : 79 + 1 = 80) ?_
              refine hp_sipush E (5000 : Int32) (by decide) dX7_names_80 (rfl : 80 + 3 = 83) ?_
              refine hp_icmp_le E dX7_names_83 (rfl : 83 + 3 = 86) (tgt := 90) (by decide) (fun hb => ?_) (fun hb => ?_)
              · have h := h.1 hb
                refine hp_iload_n E hl 3 rfl 3 rfl dX7_names_90 (rfl : 90 + 1 = 91) ?_
                refine hp_aload_n E hl 0 rfl 1 rfl dX7_names_91 (rfl : 91 + 1 = 92) ?_
                refine hp_getR E hR in_X7 (hp_mono.c hm hc0) rfl 40 (Nat.le_of_ble_eq_true rfl) rfl q1301 (fun _ h => h) dX7_names_92 (rfl : 92 + 3 = 95) ?_
                refine hp_iconst E (3 : Int32) (by decide) dX7_names_95 (rfl : 95 + 1 = 96) ?_
                obtain ⟨hc3509, h⟩ := h
                obtain ⟨hi3510, h⟩ := h
                refine hp_iald E hR hc3509 hi3510 dX7_names_96 (rfl : 96 + 1 = 97) ?_
                refine hp_iconst E (1 : Int32) (by decide) dX7_names_97 (rfl : 97 + 1 = 98) ?_
                refine hp_iadd E dX7_names_98 (rfl : 98 + 1 = 99) ?_
                refine hp_imul E dX7_names_99 (rfl : 99 + 1 = 100) ?_
                exact b100 _ _ _ _ _ _ _ h (lv_sub hl [1, 2, 0, 4] rfl) hR hm ms35
              · have h := h.2 hb
                refine hp_iload_n E hl 3 rfl 3 rfl dX7_names_86 (rfl : 86 + 1 = 87) ?_
                refine hp_goto E (tgt := 100) dX7_names_87 (by decide) ?_
                exact b100 _ _ _ _ _ _ _ h (lv_sub hl [1, 2, 0, 4] rfl) hR hm ms35
          · have h := h.2 hb
            exact b101 _ _ _ _ _ _ _ h hl hR hm ms35
        · have h := h.2 hb
          refine hp_iload_n E hl 3 rfl 3 rfl dX7_names_107 (rfl : 107 + 1 = 108) ?_
          refine hp_sipush E (5000 : Int32) (by decide) dX7_names_108 (rfl : 108 + 3 = 111) ?_
          refine hp_icmp_le E dX7_names_111 (rfl : 111 + 3 = 114) (tgt := 118) (by decide) (fun hb => ?_) (fun hb => ?_)
          · have h := h.1 hb
            refine hp_aload_n E hl 0 rfl 0 rfl dX7_names_118 (rfl : 118 + 1 = 119) ?_
            refine hp_iconst E (0 : Int32) (by decide) dX7_names_119 (rfl : 119 + 1 = 120) ?_
            refine hp_fv (hp_rV E hR hl (m_X7_lay G _ _ _ _ (hp_mono.c hm hc0) h) (hp_mono.c hm hc0) (ci := 6) rfl rfl q1653 q1655 qs63 q82 q1656 nf_X7_lay ⟨Nat.le_of_ble_eq_true rfl, Nat.le_of_ble_eq_true rfl⟩ (rest := []) rfl (Nat.le_of_ble_eq_true rfl) dX7_names_120 ⟨Nat.le_of_ble_eq_true rfl, Nat.le_of_ble_eq_true rfl⟩) hR (rfl : 120 + 3 = 123) (fun S3511 H locs hq hR => ?_)
            obtain ⟨hm3512, h⟩ := hq
            have h := h hm3512
            have hm := hp_mono.tr hm hm3512
            have ms35 := hp_mono.tr ms35 hm3512
            refine hp_iconst E (0 : Int32) (by decide) dX7_names_123 (rfl : 123 + 1 = 124) ?_
            refine hp_istore E hl 4 (lv' := [(0, hp_v B o), (1, .int a1), (2, .int v2), (3, .int v3)]) dX7_names_124 (rfl : 124 + 2 = 126) (by decide) rfl (fun ls hl => ?_)
            exact b126 _ _ _ _ _ _ _ h (lv_sub hl [1, 2, 3, 4, 0] rfl) hR hm
          · have h := h.2 hb
            refine hp_ldcw E q1685 dX7_names_114 (rfl : 114 + 3 = 117) ?_
            exact hp_iret E hR ⟨hm, h⟩ (Nat.le_of_ble_eq_true rfl) (Nat.le_of_ble_eq_true rfl) dX7_names_117
    exact key35 (μ35 v2 v3 v4 Sa35 + 1) v2 v3 v4 _ H locs ls (Nat.lt_succ_self _) hI hl hR hp_mono.rf
  unfold wp_X7_names at h
  refine hp_aload_n E hl 0 rfl 0 rfl dX7_names_0 (rfl : 0 + 1 = 1) ?_
  refine hp_iconst E (0 : Int32) (by decide) dX7_names_1 (rfl : 1 + 1 = 2) ?_
  refine hx_putI E hR in_X7 tyX7 tyX7_ok nmX7 hc0 rfl 2 (Nat.le_of_ble_eq_true rfl) rfl q1263 (fun _ h => h) (Or.inl rfl) (Or.inl rfl) dX7_names_2 (rfl : 2 + 3 = 5) (fun S1 H locs e3 hm2 hR => ?_)
  have h := h S1 e3
  have hm := hp_mono.tr hm hm2
  refine hp_iload_n E hl 1 rfl 1 rfl dX7_names_5 (rfl : 5 + 1 = 6) ?_
  refine hp_iconst E (0 : Int32) (by decide) dX7_names_6 (rfl : 6 + 1 = 7) ?_
  refine hp_ldcw E q1684 dX7_names_7 (rfl : 7 + 3 = 10) ?_
  refine hp_fi (hp_rS E hR hl (m_X7_isIn G _ _ _ _ _ h) q1504 q1505 q82 q1506 nf_X7_isIn ⟨Nat.le_of_ble_eq_true rfl, Nat.le_of_ble_eq_true rfl⟩ (rest := []) rfl (Nat.le_of_ble_eq_true rfl) dX7_names_10 ⟨Nat.le_of_ble_eq_true rfl, Nat.le_of_ble_eq_true rfl⟩) hR (rfl : 10 + 3 = 13) (fun z4 Sx H locs hq hR => ?_)
  obtain ⟨hSx, h⟩ := hq
  rw [hSx] at hR
  refine hp_if_ne E dX7_names_13 (rfl : 13 + 3 = 16) (tgt := 20) (by decide) (fun hb => ?_) (fun hb => ?_)
  · have h := h.1 hb
    refine hp_ldcw E q1685 dX7_names_16 (rfl : 16 + 3 = 19) ?_
    exact hp_iret E hR ⟨hm, h⟩ (Nat.le_of_ble_eq_true rfl) (Nat.le_of_ble_eq_true rfl) dX7_names_19
  · have h := h.2 hb
    refine hp_aload_n E hl 0 rfl 0 rfl dX7_names_20 (rfl : 20 + 1 = 21) ?_
    refine hp_aload_n E hl 0 rfl 0 rfl dX7_names_21 (rfl : 21 + 1 = 22) ?_
    refine hp_getI E hR in_X7 (hp_mono.c hm hc0) rfl 3 (Nat.le_of_ble_eq_true rfl) rfl q1264 (fun _ h => h) dX7_names_22 (rfl : 22 + 3 = 25) ?_
    refine hp_fv (hp_rV E hR hl (m_X7_know G _ _ _ _ (hp_mono.c hm hc0) h) (hp_mono.c hm hc0) (ci := 6) rfl rfl q1581 q1583 qs53 q82 q1584 nf_X7_know ⟨Nat.le_of_ble_eq_true rfl, Nat.le_of_ble_eq_true rfl⟩ (rest := []) rfl (Nat.le_of_ble_eq_true rfl) dX7_names_25 ⟨Nat.le_of_ble_eq_true rfl, Nat.le_of_ble_eq_true rfl⟩) hR (rfl : 25 + 3 = 28) (fun S5 H locs hq hR => ?_)
    obtain ⟨hm6, h⟩ := hq
    have h := h hm6
    have hm := hp_mono.tr hm hm6
    refine hp_iconst E (0 : Int32) (by decide) dX7_names_28 (rfl : 28 + 1 = 29) ?_
    refine hp_istore_n E hl 2 rfl (lv' := [(0, hp_v B o), (1, .int a1)]) dX7_names_29 (rfl : 29 + 1 = 30) (by decide) rfl (fun ls hl => ?_)
    refine hp_iconst E (1 : Int32) (by decide) dX7_names_30 (rfl : 30 + 1 = 31) ?_
    refine hp_istore_n E hl 3 rfl (lv' := [(2, .int (0 : Int32)), (0, hp_v B o), (1, .int a1)]) dX7_names_31 (rfl : 31 + 1 = 32) (by decide) rfl (fun ls hl => ?_)
    refine hp_iconst E (0 : Int32) (by decide) dX7_names_32 (rfl : 32 + 1 = 33) ?_
    refine hp_istore E hl 4 (lv' := [(3, .int (1 : Int32)), (2, .int (0 : Int32)), (0, hp_v B o), (1, .int a1)]) dX7_names_33 (rfl : 33 + 2 = 35) (by decide) rfl (fun ls hl => ?_)
    exact b35 _ _ _ _ _ _ _ h (lv_sub hl [3, 4, 2, 1, 0] rfl) hR hm
def wb_X7_named_30 (o : Nat) (a1 : Int32) (t0 : Int32) (S : hp_St) (Q : Int32 → hp_St → Prop) : Prop := Q t0 S
def wb_X7_named_29 (o : Nat) (a1 : Int32) (S : hp_St) (Q : Int32 → hp_St → Prop) : Prop := wb_X7_named_30 o a1 (-1 : Int32) S Q
def wp_X7_named (o : Nat) (a1 : Int32) (S : hp_St) (Q : Int32 → hp_St → Prop) : Prop := (∀ S1, S1 = st_pI S o 2 (0 : Int32) → ((((st_I S1 o 52) = 0) → wb_X7_named_29 o a1 S1 Q) ∧ ((¬ ((st_I S1 o 52) = 0)) → wp_X7_isLife o a1 S1 (fun z4 => (((z4 = 0) → wb_X7_named_29 o a1 S1 Q) ∧ ((¬ (z4 = 0)) → (st_C S1 (st_R S1 o 53) = 50) ∧ (vp_in a1 (st_L S1 (st_R S1 o 53))) ∧ wb_X7_named_30 o a1 (st_I S1 (st_R S1 o 53) a1.toNatClampNeg) S1 Q))))))
theorem nf_X7_named : hp_nf yX7_named 1 = true := by decide +kernel
set_option maxHeartbeats 4000000 in
theorem m_X7_named {l : Launch} {B : Nat} {D : va_G} {s0 : State} {b0 : Nat} (G : hp_G l B D s0 b0) (o : Nat) (a1 : Int32) (Si : hp_St) (Q : Int32 → hp_St → Prop) (hc0 : st_C Si o = 7) (h : wp_X7_named o a1 Si Q) : hp_M l B D s0 yX7_named cX7_named 2 (some .int) 3 192 0 0 [hp_v B o, .int a1] Si (hp_Qi B D s0 (fun r S' => hp_mono Si S' ∧ Q r S')) := by
  refine hp_start G (by decide +kernel) rfl rfl (lv := [(0, hp_v B o), (1, .int a1)]) (by simp [lg_sl, hp_vc, hp_ci, hp_cj]) (by simp [lv_args, hp_vc, hp_ci, hp_cj]) ?_
  intro p e s m args below meth c E ls hl hR
  have hm : hp_mono Si Si := hp_mono.rf
  generalize hH : s.heap = H at hR ⊢
  generalize hLo : ([] : List Loc) = locs at hR ⊢
  have b30 : ∀ (t0 : Int32) (S : hp_St) (H : Heap) (locs : List Loc) (ls : Array Slot), wb_X7_named_30 o a1 t0 S Q → lv_has ls 2 [] → hp_S B D s0 S H locs → hp_mono Si S → W p l e ({ frames := 3, cells := 0, slots := 0, locals := 192 } : Room) s m args below meth c H locs 0 0 (MQ below (hp_Qi B D s0 (fun r S' => hp_mono Si S' ∧ Q r S')) args s 0 0 (fun q => B < q)) (F0 m 30 ls [.int t0]) := by
    intro t0 S H locs ls h hl hR hm
    unfold wb_X7_named_30 at h
    exact hp_iret E hR ⟨hm, h⟩ (Nat.le_of_ble_eq_true rfl) (Nat.le_of_ble_eq_true rfl) dX7_named_30
  have b29 : ∀ (S : hp_St) (H : Heap) (locs : List Loc) (ls : Array Slot), wb_X7_named_29 o a1 S Q → lv_has ls 2 [] → hp_S B D s0 S H locs → hp_mono Si S → W p l e ({ frames := 3, cells := 0, slots := 0, locals := 192 } : Room) s m args below meth c H locs 0 0 (MQ below (hp_Qi B D s0 (fun r S' => hp_mono Si S' ∧ Q r S')) args s 0 0 (fun q => B < q)) (F0 m 29 ls []) := by
    intro S H locs ls h hl hR hm
    unfold wb_X7_named_29 at h
    refine hp_iconst E (-1 : Int32) (by decide) dX7_named_29 (rfl : 29 + 1 = 30) ?_
    exact b30 _ _ _ _ _ h hl hR hm
  unfold wp_X7_named at h
  refine hp_aload_n E hl 0 rfl 0 rfl dX7_named_0 (rfl : 0 + 1 = 1) ?_
  refine hp_iconst E (0 : Int32) (by decide) dX7_named_1 (rfl : 1 + 1 = 2) ?_
  refine hx_putI E hR in_X7 tyX7 tyX7_ok nmX7 hc0 rfl 2 (Nat.le_of_ble_eq_true rfl) rfl q1263 (fun _ h => h) (Or.inl rfl) (Or.inl rfl) dX7_named_2 (rfl : 2 + 3 = 5) (fun S1 H locs e3 hm2 hR => ?_)
  have h := h S1 e3
  have hm := hp_mono.tr hm hm2
  refine hp_aload_n E hl 0 rfl 0 rfl dX7_named_5 (rfl : 5 + 1 = 6) ?_
  refine hp_getI E hR in_X7 (hp_mono.c hm hc0) rfl 52 (Nat.le_of_ble_eq_true rfl) rfl q1313 (fun _ h => h) dX7_named_6 (rfl : 6 + 3 = 9) ?_
  refine hp_if_eq E dX7_named_9 (rfl : 9 + 3 = 12) (tgt := 29) (by decide) (fun hb => ?_) (fun hb => ?_)
  · have h := h.1 hb
    exact b29 _ _ _ _ h (lv_sub hl [] rfl) hR hm
  · have h := h.2 hb
    refine hp_aload_n E hl 0 rfl 0 rfl dX7_named_12 (rfl : 12 + 1 = 13) ?_
    refine hp_iload_n E hl 1 rfl 1 rfl dX7_named_13 (rfl : 13 + 1 = 14) ?_
    refine hp_fi (hp_rV E hR hl (m_X7_isLife G _ _ _ _ (hp_mono.c hm hc0) h) (hp_mono.c hm hc0) (ci := 6) rfl rfl q1515 q1517 qs44 q82 q1518 nf_X7_isLife ⟨Nat.le_of_ble_eq_true rfl, Nat.le_of_ble_eq_true rfl⟩ (rest := []) rfl (Nat.le_of_ble_eq_true rfl) dX7_named_14 ⟨Nat.le_of_ble_eq_true rfl, Nat.le_of_ble_eq_true rfl⟩) hR (rfl : 14 + 3 = 17) (fun z4 Sx H locs hq hR => ?_)
    obtain ⟨hSx, h⟩ := hq
    rw [hSx] at hR
    refine hp_if_eq E dX7_named_17 (rfl : 17 + 3 = 20) (tgt := 29) (by decide) (fun hb => ?_) (fun hb => ?_)
    · have h := h.1 hb
      exact b29 _ _ _ _ h (lv_sub hl [] rfl) hR hm
    · have h := h.2 hb
      refine hp_aload_n E hl 0 rfl 0 rfl dX7_named_20 (rfl : 20 + 1 = 21) ?_
      refine hp_getR E hR in_X7 (hp_mono.c hm hc0) rfl 53 (Nat.le_of_ble_eq_true rfl) rfl q1314 (fun _ h => h) dX7_named_21 (rfl : 21 + 3 = 24) ?_
      refine hp_iload_n E hl 1 rfl 1 rfl dX7_named_24 (rfl : 24 + 1 = 25) ?_
      obtain ⟨hc5, h⟩ := h
      obtain ⟨hi6, h⟩ := h
      refine hp_iald E hR hc5 hi6 dX7_named_25 (rfl : 25 + 1 = 26) ?_
      refine hp_goto E (tgt := 30) dX7_named_26 (by decide) ?_
      exact b30 _ _ _ _ _ h (lv_sub hl [] rfl) hR hm
def wb_X7_riskOf_167 (o : Nat) (a1 : Int32) (v2 : Int32) (v3 : Int32) (S : hp_St) (Q : Int64 → Prop) : Prop := (st_C S (st_R S o 6) = 50) ∧ (vp_in a1 (st_L S (st_R S o 6))) ∧ wp_X7_ageIn o a1 (st_I S o 3) S (fun z16703 => wp_X7_groupOf z16703 S (fun z16704 => (st_C S (st_R S o 21) = 50) ∧ (vp_in (((10 : Int32) * (st_I S (st_R S o 6) a1.toNatClampNeg)) + z16704) (st_L S (st_R S o 21))) ∧ Q ((v2.toInt64 * (((1000 : Int32) - (st_I S (st_R S o 21) (((10 : Int32) * (st_I S (st_R S o 6) a1.toNatClampNeg)) + z16704).toNatClampNeg)).toInt64)) * (((st_I S o 3) - v3).toInt64))))
def wb_X7_riskOf_152 (o : Nat) (a1 : Int32) (v2 : Int32) (v3 : Int32) (v4 : Int32) (v5 : Int32) (S : hp_St) (K82 : Int32 → Int32 → Prop) (Q : Int64 → Prop) : Prop := K82 v4 (v5 + (1 : Int32))
def wb_X7_riskOf_82 (o : Nat) (a1 : Int32) (v2 : Int32) (v3 : Int32) (v4 : Int32) (v5 : Int32) (S : hp_St) (K82 : Int32 → Int32 → Prop) (Q : Int64 → Prop) : Prop := (((v5 < (st_I S o 16)) → (st_C S (st_R S o 17) = 50) ∧ (vp_in v5 (st_L S (st_R S o 17))) ∧ ((((st_I S (st_R S o 17) v5.toNatClampNeg) = 0) → (st_C S (st_R S o 44) = 51) ∧ (vp_in v5 (st_L S (st_R S o 44))) ∧ ((((st_I S (st_R S o 44) v5.toNatClampNeg) = 0) → wb_X7_riskOf_152 o a1 v2 v3 v4 v5 S K82 Q) ∧ ((¬ ((st_I S (st_R S o 44) v5.toNatClampNeg) = 0)) → (st_C S (st_R S o 18) = 50) ∧ (vp_in v5 (st_L S (st_R S o 18))) ∧ ((((st_I S (st_R S o 18) v5.toNatClampNeg) = a1) → wp_X7_isFalse o v5 S (fun z8207 => (((z8207 = 0) → (st_C S (st_R S o 19) = 50) ∧ (vp_in v5 (st_L S (st_R S o 19))) ∧ ((((st_I S (st_R S o 19) v5.toNatClampNeg) ≤ v4) → wb_X7_riskOf_152 o a1 v2 v3 v4 v5 S K82 Q) ∧ ((¬ ((st_I S (st_R S o 19) v5.toNatClampNeg) ≤ v4)) → (vp_in v5 (st_L S (st_R S o 19))) ∧ wb_X7_riskOf_152 o a1 v2 v3 (st_I S (st_R S o 19) v5.toNatClampNeg) v5 S K82 Q))) ∧ ((¬ (z8207 = 0)) → wb_X7_riskOf_152 o a1 v2 v3 v4 v5 S K82 Q)))) ∧ ((¬ ((st_I S (st_R S o 18) v5.toNatClampNeg) = a1)) → wb_X7_riskOf_152 o a1 v2 v3 v4 v5 S K82 Q))))) ∧ ((¬ ((st_I S (st_R S o 17) v5.toNatClampNeg) = 0)) → wb_X7_riskOf_152 o a1 v2 v3 v4 v5 S K82 Q))) ∧ ((¬ (v5 < (st_I S o 16))) → (((v4 = (-1 : Int32)) → wb_X7_riskOf_167 o a1 v2 v3 S Q) ∧ ((¬ (v4 = (-1 : Int32))) → wb_X7_riskOf_167 o a1 v2 v4 S Q))))
def wl_X7_riskOf_82 (o : Nat) (a1 : Int32) (v2 : Int32) (v3 : Int32) (v4 : Int32) (v5 : Int32) (S : hp_St) (Q : Int64 → Prop) : Prop := ∃ (I : Int32 → Int32 → Prop) (μ : Int32 → Int32 → Nat), I v4 v5 ∧ ∀ (v4 : Int32) (v5 : Int32), I v4 v5 → wb_X7_riskOf_82 o a1 v2 v3 v4 v5 S (fun v4' v5' => I v4' v5' ∧ μ v4' v5' < μ v4 v5) Q
def wb_X7_riskOf_64 (o : Nat) (a1 : Int32) (v2 : Int32) (v3 : Int32) (v4 : Int32) (S : hp_St) (K7 : Int32 → Int32 → Int32 → Prop) (Q : Int64 → Prop) : Prop := K7 v2 v3 (v4 + (1 : Int32))
def wb_X7_riskOf_7 (o : Nat) (a1 : Int32) (v2 : Int32) (v3 : Int32) (v4 : Int32) (S : hp_St) (K7 : Int32 → Int32 → Int32 → Prop) (Q : Int64 → Prop) : Prop := (((v4 < (st_I S o 7)) → (st_C S (st_R S o 10) = 50) ∧ (vp_in v4 (st_L S (st_R S o 10))) ∧ ((((st_I S (st_R S o 10) v4.toNatClampNeg) = a1) → (st_C S (st_R S o 11) = 50) ∧ (vp_in v4 (st_L S (st_R S o 11))) ∧ ((((st_I S (st_R S o 11) v4.toNatClampNeg) = (-1 : Int32)) → (st_C S (st_R S o 12) = 50) ∧ (vp_in v4 (st_L S (st_R S o 12))) ∧ (((v3 = (-1 : Int32)) → (st_C S (st_R S o 8) = 50) ∧ (vp_in v4 (st_L S (st_R S o 8))) ∧ wb_X7_riskOf_64 o a1 (v2 + (st_I S (st_R S o 12) v4.toNatClampNeg)) (st_I S (st_R S o 8) v4.toNatClampNeg) v4 S K7 Q) ∧ ((¬ (v3 = (-1 : Int32))) → wb_X7_riskOf_64 o a1 (v2 + (st_I S (st_R S o 12) v4.toNatClampNeg)) v3 v4 S K7 Q))) ∧ ((¬ ((st_I S (st_R S o 11) v4.toNatClampNeg) = (-1 : Int32))) → wb_X7_riskOf_64 o a1 v2 v3 v4 S K7 Q))) ∧ ((¬ ((st_I S (st_R S o 10) v4.toNatClampNeg) = a1)) → wb_X7_riskOf_64 o a1 v2 v3 v4 S K7 Q))) ∧ ((¬ (v4 < (st_I S o 7))) → (((v2 = 0) → Q (0 : Int64)) ∧ ((¬ (v2 = 0)) → wl_X7_riskOf_82 o a1 v2 v3 (-1 : Int32) (0 : Int32) S Q))))
def wl_X7_riskOf_7 (o : Nat) (a1 : Int32) (v2 : Int32) (v3 : Int32) (v4 : Int32) (S : hp_St) (Q : Int64 → Prop) : Prop := ∃ (I : Int32 → Int32 → Int32 → Prop) (μ : Int32 → Int32 → Int32 → Nat), I v2 v3 v4 ∧ ∀ (v2 : Int32) (v3 : Int32) (v4 : Int32), I v2 v3 v4 → wb_X7_riskOf_7 o a1 v2 v3 v4 S (fun v2' v3' v4' => I v2' v3' v4' ∧ μ v2' v3' v4' < μ v2 v3 v4) Q
def wp_X7_riskOf (o : Nat) (a1 : Int32) (S : hp_St) (Q : Int64 → Prop) : Prop := wl_X7_riskOf_7 o a1 (0 : Int32) (-1 : Int32) (0 : Int32) S Q
theorem nf_X7_riskOf : hp_nf yX7_riskOf 1 = true := by decide +kernel
set_option maxHeartbeats 4000000 in
theorem m_X7_riskOf {l : Launch} {B : Nat} {D : va_G} {s0 : State} {b0 : Nat} (G : hp_G l B D s0 b0) (o : Nat) (a1 : Int32) (Si : hp_St) (Q : Int64 → Prop) (hc0 : st_C Si o = 7) (h : wp_X7_riskOf o a1 Si Q) : hp_M l B D s0 yX7_riskOf cX7_riskOf 6 (some .long) 3 192 0 0 [hp_v B o, .int a1] Si (hp_Ql B D s0 (fun r S' => S' = Si ∧ Q r)) := by
  refine hp_start G (by decide +kernel) rfl rfl (lv := [(0, hp_v B o), (1, .int a1)]) (by simp [lg_sl, hp_vc, hp_ci, hp_cj]) (by simp [lv_args, hp_vc, hp_ci, hp_cj]) ?_
  intro p e s m args below meth c E ls hl hR
  generalize hH : s.heap = H at hR ⊢
  generalize hLo : ([] : List Loc) = locs at hR ⊢
  have b167 : ∀ (v2 : Int32) (v3 : Int32) (H : Heap) (locs : List Loc) (ls : Array Slot), wb_X7_riskOf_167 o a1 v2 v3 Si Q → lv_has ls 6 [(0, hp_v B o), (1, .int a1), (2, .int v2), (3, .int v3)] → hp_S B D s0 Si H locs → W p l e ({ frames := 3, cells := 0, slots := 0, locals := 192 } : Room) s m args below meth c H locs 0 0 (MQ below (hp_Ql B D s0 (fun r S' => S' = Si ∧ Q r)) args s 0 0 (fun q => B < q)) (F0 m 167 ls []) := by
    intro v2 v3 H locs ls h hl hR
    unfold wb_X7_riskOf_167 at h
    refine hp_iload_n E hl 2 rfl 2 rfl dX7_riskOf_167 (rfl : 167 + 1 = 168) ?_
    refine hp_i2l E dX7_riskOf_168 (rfl : 168 + 1 = 169) ?_
    refine hp_sipush E (1000 : Int32) (by decide) dX7_riskOf_169 (rfl : 169 + 3 = 172) ?_
    refine hp_aload_n E hl 0 rfl 0 rfl dX7_riskOf_172 (rfl : 172 + 1 = 173) ?_
    refine hp_getR E hR in_X7 hc0 rfl 21 (Nat.le_of_ble_eq_true rfl) rfl q1282 (fun _ h => h) dX7_riskOf_173 (rfl : 173 + 3 = 176) ?_
    refine hp_bipush E (10 : Int32) (by decide) dX7_riskOf_176 (rfl : 176 + 2 = 178) ?_
    refine hp_aload_n E hl 0 rfl 0 rfl dX7_riskOf_178 (rfl : 178 + 1 = 179) ?_
    refine hp_getR E hR in_X7 hc0 rfl 6 (Nat.le_of_ble_eq_true rfl) rfl q1267 (fun _ h => h) dX7_riskOf_179 (rfl : 179 + 3 = 182) ?_
    refine hp_iload_n E hl 1 rfl 1 rfl dX7_riskOf_182 (rfl : 182 + 1 = 183) ?_
    obtain ⟨hc16701, h⟩ := h
    obtain ⟨hi16702, h⟩ := h
    refine hp_iald E hR hc16701 hi16702 dX7_riskOf_183 (rfl : 183 + 1 = 184) ?_
    refine hp_imul E dX7_riskOf_184 (rfl : 184 + 1 = 185) ?_
    refine hp_aload_n E hl 0 rfl 0 rfl dX7_riskOf_185 (rfl : 185 + 1 = 186) ?_
    refine hp_iload_n E hl 1 rfl 1 rfl dX7_riskOf_186 (rfl : 186 + 1 = 187) ?_
    refine hp_aload_n E hl 0 rfl 0 rfl dX7_riskOf_187 (rfl : 187 + 1 = 188) ?_
    refine hp_getI E hR in_X7 hc0 rfl 3 (Nat.le_of_ble_eq_true rfl) rfl q1264 (fun _ h => h) dX7_riskOf_188 (rfl : 188 + 3 = 191) ?_
    refine hp_fi (hp_rV E hR hl (m_X7_ageIn G _ _ _ _ _ hc0 h) hc0 (ci := 6) rfl rfl q1527 q1529 qs47 q82 q1530 nf_X7_ageIn ⟨Nat.le_of_ble_eq_true rfl, Nat.le_of_ble_eq_true rfl⟩ (rest := [.int ((10 : Int32) * (st_I Si (st_R Si o 6) a1.toNatClampNeg)), hp_v B (st_R Si o 21), .int (1000 : Int32), .long v2.toInt64]) rfl (Nat.le_of_ble_eq_true rfl) dX7_riskOf_191 ⟨Nat.le_of_ble_eq_true rfl, Nat.le_of_ble_eq_true rfl⟩) hR (rfl : 191 + 3 = 194) (fun z16703 Sx H locs hq hR => ?_)
    obtain ⟨hSx, h⟩ := hq
    rw [hSx] at hR
    refine hp_fi (hp_rS E hR hl (m_X7_groupOf G _ _ _ h) q1669 q1670 q82 q1671 nf_X7_groupOf ⟨Nat.le_of_ble_eq_true rfl, Nat.le_of_ble_eq_true rfl⟩ (rest := [.int ((10 : Int32) * (st_I Si (st_R Si o 6) a1.toNatClampNeg)), hp_v B (st_R Si o 21), .int (1000 : Int32), .long v2.toInt64]) rfl (Nat.le_of_ble_eq_true rfl) dX7_riskOf_194 ⟨Nat.le_of_ble_eq_true rfl, Nat.le_of_ble_eq_true rfl⟩) hR (rfl : 194 + 3 = 197) (fun z16704 Sx H locs hq hR => ?_)
    obtain ⟨hSx, h⟩ := hq
    rw [hSx] at hR
    refine hp_iadd E dX7_riskOf_197 (rfl : 197 + 1 = 198) ?_
    obtain ⟨hc16705, h⟩ := h
    obtain ⟨hi16706, h⟩ := h
    refine hp_iald E hR hc16705 hi16706 dX7_riskOf_198 (rfl : 198 + 1 = 199) ?_
    refine hp_isub E dX7_riskOf_199 (rfl : 199 + 1 = 200) ?_
    refine hp_i2l E dX7_riskOf_200 (rfl : 200 + 1 = 201) ?_
    refine hp_lmul E dX7_riskOf_201 (rfl : 201 + 1 = 202) ?_
    refine hp_aload_n E hl 0 rfl 0 rfl dX7_riskOf_202 (rfl : 202 + 1 = 203) ?_
    refine hp_getI E hR in_X7 hc0 rfl 3 (Nat.le_of_ble_eq_true rfl) rfl q1264 (fun _ h => h) dX7_riskOf_203 (rfl : 203 + 3 = 206) ?_
    refine hp_iload_n E hl 3 rfl 3 rfl dX7_riskOf_206 (rfl : 206 + 1 = 207) ?_
    refine hp_isub E dX7_riskOf_207 (rfl : 207 + 1 = 208) ?_
    refine hp_i2l E dX7_riskOf_208 (rfl : 208 + 1 = 209) ?_
    refine hp_lmul E dX7_riskOf_209 (rfl : 209 + 1 = 210) ?_
    exact hp_lret E hR ⟨rfl, h⟩ (Nat.le_of_ble_eq_true rfl) (Nat.le_of_ble_eq_true rfl) dX7_riskOf_210
  have b82 : ∀ (v2 : Int32) (v3 : Int32) (v4 : Int32) (v5 : Int32) (H : Heap) (locs : List Loc) (ls : Array Slot), wl_X7_riskOf_82 o a1 v2 v3 v4 v5 Si Q → lv_has ls 6 [(0, hp_v B o), (1, .int a1), (2, .int v2), (3, .int v3), (4, .int v4), (5, .int v5)] → hp_S B D s0 Si H locs → W p l e ({ frames := 3, cells := 0, slots := 0, locals := 192 } : Room) s m args below meth c H locs 0 0 (MQ below (hp_Ql B D s0 (fun r S' => S' = Si ∧ Q r)) args s 0 0 (fun q => B < q)) (F0 m 82 ls []) := by
    intro v2 v3 v4 v5 H locs ls h hl hR
    obtain ⟨I82, μ82, hI, hst⟩ := h
    have key82 : ∀ (N : Nat) (v4 : Int32) (v5 : Int32) (H : Heap) (locs : List Loc) (ls : Array Slot), μ82 v4 v5 < N → I82 v4 v5 → lv_has ls 6 [(0, hp_v B o), (1, .int a1), (2, .int v2), (3, .int v3), (4, .int v4), (5, .int v5)] → hp_S B D s0 Si H locs → W p l e ({ frames := 3, cells := 0, slots := 0, locals := 192 } : Room) s m args below meth c H locs 0 0 (MQ below (hp_Ql B D s0 (fun r S' => S' = Si ∧ Q r)) args s 0 0 (fun q => B < q)) (F0 m 82 ls []) := by
      intro N
      induction N with
      | zero =>
        intro v4 v5 H locs ls hN
        exact absurd hN (Nat.not_lt_zero _)
      | succ N ih82 =>
        intro v4 v5 H locs ls hN hI hl hR
        have h := hst v4 v5 hI
        obtain ⟨K82, hKe82⟩ : ∃ K : Int32 → Int32 → Prop, K = (fun v4' v5' => I82 v4' v5' ∧ μ82 v4' v5' < μ82 v4 v5) := ⟨_, rfl⟩
        rw [← hKe82] at h
        have hK82 : ∀ (v4' : Int32) (v5' : Int32) (H : Heap) (locs : List Loc) (ls : Array Slot), K82 v4' v5' → lv_has ls 6 [(0, hp_v B o), (1, .int a1), (2, .int v2), (3, .int v3), (4, .int (v4')), (5, .int (v5'))] → hp_S B D s0 Si H locs → W p l e ({ frames := 3, cells := 0, slots := 0, locals := 192 } : Room) s m args below meth c H locs 0 0 (MQ below (hp_Ql B D s0 (fun r S' => S' = Si ∧ Q r)) args s 0 0 (fun q => B < q)) (F0 m 82 ls []) := by
          intro v4' v5' H locs ls hI hl hR
          rw [hKe82] at hI
          exact ih82 v4' v5' H locs ls (Nat.lt_of_lt_of_le hI.2 (Nat.le_of_lt_succ hN)) hI.1 hl hR
        have b152 : ∀ (v4 : Int32) (v5 : Int32) (H : Heap) (locs : List Loc) (ls : Array Slot), wb_X7_riskOf_152 o a1 v2 v3 v4 v5 Si K82 Q → lv_has ls 6 [(0, hp_v B o), (1, .int a1), (2, .int v2), (3, .int v3), (4, .int v4), (5, .int v5)] → hp_S B D s0 Si H locs → W p l e ({ frames := 3, cells := 0, slots := 0, locals := 192 } : Room) s m args below meth c H locs 0 0 (MQ below (hp_Ql B D s0 (fun r S' => S' = Si ∧ Q r)) args s 0 0 (fun q => B < q)) (F0 m 152 ls []) := by
          intro v4 v5 H locs ls h hl hR
          unfold wb_X7_riskOf_152 at h
          refine hp_iinc E hl (v5 + (1 : Int32)) 5 (lv' := [(0, hp_v B o), (1, .int a1), (2, .int v2), (3, .int v3), (4, .int v4)]) dX7_riskOf_152 (rfl : 152 + 3 = 155) rfl (by first | rfl | (congr 1)) (by decide) rfl (fun ls hl => ?_)
          refine hp_goto E (tgt := 82) dX7_riskOf_155 (by decide) ?_
          exact hK82 _ _ _ _ _ h (lv_sub hl [1, 2, 3, 4, 5, 0] rfl) hR
        unfold wb_X7_riskOf_82 at h
        refine hp_iload E hl 5 rfl dX7_riskOf_82 (rfl : 82 + 2 = 84) ?_
        refine hp_aload_n E hl 0 rfl 0 rfl dX7_riskOf_84 (rfl : 84 + 1 = 85) ?_
        refine hp_getI E hR in_X7 hc0 rfl 16 (Nat.le_of_ble_eq_true rfl) rfl q1277 (fun _ h => h) dX7_riskOf_85 (rfl : 85 + 3 = 88) ?_
        refine hp_icmp_ge E dX7_riskOf_88 (rfl : 88 + 3 = 91) (tgt := 158) (by decide) (fun hb => ?_) (fun hb => ?_)
        · have h := h.1 hb
          refine hp_aload_n E hl 0 rfl 0 rfl dX7_riskOf_91 (rfl : 91 + 1 = 92) ?_
          refine hp_getR E hR in_X7 hc0 rfl 17 (Nat.le_of_ble_eq_true rfl) rfl q1278 (fun _ h => h) dX7_riskOf_92 (rfl : 92 + 3 = 95) ?_
          refine hp_iload E hl 5 rfl dX7_riskOf_95 (rfl : 95 + 2 = 97) ?_
          obtain ⟨hc8201, h⟩ := h
          obtain ⟨hi8202, h⟩ := h
          refine hp_iald E hR hc8201 hi8202 dX7_riskOf_97 (rfl : 97 + 1 = 98) ?_
          refine hp_if_ne E dX7_riskOf_98 (rfl : 98 + 3 = 101) (tgt := 152) (by decide) (fun hb => ?_) (fun hb => ?_)
          · have h := h.1 hb
            refine hp_aload_n E hl 0 rfl 0 rfl dX7_riskOf_101 (rfl : 101 + 1 = 102) ?_
            refine hp_getR E hR in_X7 hc0 rfl 44 (Nat.le_of_ble_eq_true rfl) rfl q1305 (fun _ h => h) dX7_riskOf_102 (rfl : 102 + 3 = 105) ?_
            refine hp_iload E hl 5 rfl dX7_riskOf_105 (rfl : 105 + 2 = 107) ?_
            obtain ⟨hc8203, h⟩ := h
            obtain ⟨hi8204, h⟩ := h
            refine hp_zald E hR hc8203 hi8204 dX7_riskOf_107 (rfl : 107 + 1 = 108) ?_
            refine hp_if_eq E dX7_riskOf_108 (rfl : 108 + 3 = 111) (tgt := 152) (by decide) (fun hb => ?_) (fun hb => ?_)
            · have h := h.1 hb
              exact b152 _ _ _ _ _ h hl hR
            · have h := h.2 hb
              refine hp_aload_n E hl 0 rfl 0 rfl dX7_riskOf_111 (rfl : 111 + 1 = 112) ?_
              refine hp_getR E hR in_X7 hc0 rfl 18 (Nat.le_of_ble_eq_true rfl) rfl q1279 (fun _ h => h) dX7_riskOf_112 (rfl : 112 + 3 = 115) ?_
              refine hp_iload E hl 5 rfl dX7_riskOf_115 (rfl : 115 + 2 = 117) ?_
              obtain ⟨hc8205, h⟩ := h
              obtain ⟨hi8206, h⟩ := h
              refine hp_iald E hR hc8205 hi8206 dX7_riskOf_117 (rfl : 117 + 1 = 118) ?_
              refine hp_iload_n E hl 1 rfl 1 rfl dX7_riskOf_118 (rfl : 118 + 1 = 119) ?_
              refine hp_icmp_ne E dX7_riskOf_119 (rfl : 119 + 3 = 122) (tgt := 152) (by decide) (fun hb => ?_) (fun hb => ?_)
              · have h := h.1 hb
                refine hp_aload_n E hl 0 rfl 0 rfl dX7_riskOf_122 (rfl : 122 + 1 = 123) ?_
                refine hp_iload E hl 5 rfl dX7_riskOf_123 (rfl : 123 + 2 = 125) ?_
                refine hp_fi (hp_rV E hR hl (m_X7_isFalse G _ _ _ _ hc0 h) hc0 (ci := 6) rfl rfl q1589 q1591 qs54 q82 q1592 nf_X7_isFalse ⟨Nat.le_of_ble_eq_true rfl, Nat.le_of_ble_eq_true rfl⟩ (rest := []) rfl (Nat.le_of_ble_eq_true rfl) dX7_riskOf_125 ⟨Nat.le_of_ble_eq_true rfl, Nat.le_of_ble_eq_true rfl⟩) hR (rfl : 125 + 3 = 128) (fun z8207 Sx H locs hq hR => ?_)
                obtain ⟨hSx, h⟩ := hq
                rw [hSx] at hR
                refine hp_if_ne E dX7_riskOf_128 (rfl : 128 + 3 = 131) (tgt := 152) (by decide) (fun hb => ?_) (fun hb => ?_)
                · have h := h.1 hb
                  refine hp_aload_n E hl 0 rfl 0 rfl dX7_riskOf_131 (rfl : 131 + 1 = 132) ?_
                  refine hp_getR E hR in_X7 hc0 rfl 19 (Nat.le_of_ble_eq_true rfl) rfl q1280 (fun _ h => h) dX7_riskOf_132 (rfl : 132 + 3 = 135) ?_
                  refine hp_iload E hl 5 rfl dX7_riskOf_135 (rfl : 135 + 2 = 137) ?_
                  obtain ⟨hc8208, h⟩ := h
                  obtain ⟨hi8209, h⟩ := h
                  refine hp_iald E hR hc8208 hi8209 dX7_riskOf_137 (rfl : 137 + 1 = 138) ?_
                  refine hp_iload E hl 4 rfl dX7_riskOf_138 (rfl : 138 + 2 = 140) ?_
                  refine hp_icmp_le E dX7_riskOf_140 (rfl : 140 + 3 = 143) (tgt := 152) (by decide) (fun hb => ?_) (fun hb => ?_)
                  · have h := h.1 hb
                    exact b152 _ _ _ _ _ h hl hR
                  · have h := h.2 hb
                    refine hp_aload_n E hl 0 rfl 0 rfl dX7_riskOf_143 (rfl : 143 + 1 = 144) ?_
                    refine hp_getR E hR in_X7 hc0 rfl 19 (Nat.le_of_ble_eq_true rfl) rfl q1280 (fun _ h => h) dX7_riskOf_144 (rfl : 144 + 3 = 147) ?_
                    refine hp_iload E hl 5 rfl dX7_riskOf_147 (rfl : 147 + 2 = 149) ?_
                    obtain ⟨hi8210, h⟩ := h
                    refine hp_iald E hR hc8208 hi8210 dX7_riskOf_149 (rfl : 149 + 1 = 150) ?_
                    refine hp_istore E hl 4 (lv' := [(0, hp_v B o), (1, .int a1), (2, .int v2), (3, .int v3), (5, .int v5)]) dX7_riskOf_150 (rfl : 150 + 2 = 152) (by decide) rfl (fun ls hl => ?_)
                    exact b152 _ _ _ _ _ h (lv_sub hl [1, 2, 3, 4, 0, 5] rfl) hR
                · have h := h.2 hb
                  exact b152 _ _ _ _ _ h hl hR
              · have h := h.2 hb
                exact b152 _ _ _ _ _ h hl hR
          · have h := h.2 hb
            exact b152 _ _ _ _ _ h hl hR
        · have h := h.2 hb
          refine hp_iload E hl 4 rfl dX7_riskOf_158 (rfl : 158 + 2 = 160) ?_
          refine hp_iconst E (-1 : Int32) (by decide) dX7_riskOf_160 (rfl : 160 + 1 = 161) ?_
          refine hp_icmp_eq E dX7_riskOf_161 (rfl : 161 + 3 = 164) (tgt := 167) (by decide) (fun hb => ?_) (fun hb => ?_)
          · have h := h.1 hb
            exact b167 _ _ _ _ _ h (lv_sub hl [0, 1, 2, 3] rfl) hR
          · have h := h.2 hb
            refine hp_iload E hl 4 rfl dX7_riskOf_164 (rfl : 164 + 2 = 166) ?_
            refine hp_istore_n E hl 3 rfl (lv' := [(0, hp_v B o), (1, .int a1), (2, .int v2), (4, .int v4), (5, .int v5)]) dX7_riskOf_166 (rfl : 166 + 1 = 167) (by decide) rfl (fun ls hl => ?_)
            exact b167 _ _ _ _ _ h (lv_sub hl [1, 2, 3, 0] rfl) hR
    exact key82 (μ82 v4 v5 + 1) v4 v5 H locs ls (Nat.lt_succ_self _) hI hl hR
  have b7 : ∀ (v2 : Int32) (v3 : Int32) (v4 : Int32) (H : Heap) (locs : List Loc) (ls : Array Slot), wl_X7_riskOf_7 o a1 v2 v3 v4 Si Q → lv_has ls 6 [(0, hp_v B o), (1, .int a1), (2, .int v2), (3, .int v3), (4, .int v4)] → hp_S B D s0 Si H locs → W p l e ({ frames := 3, cells := 0, slots := 0, locals := 192 } : Room) s m args below meth c H locs 0 0 (MQ below (hp_Ql B D s0 (fun r S' => S' = Si ∧ Q r)) args s 0 0 (fun q => B < q)) (F0 m 7 ls []) := by
    intro v2 v3 v4 H locs ls h hl hR
    obtain ⟨I7, μ7, hI, hst⟩ := h
    have key7 : ∀ (N : Nat) (v2 : Int32) (v3 : Int32) (v4 : Int32) (H : Heap) (locs : List Loc) (ls : Array Slot), μ7 v2 v3 v4 < N → I7 v2 v3 v4 → lv_has ls 6 [(0, hp_v B o), (1, .int a1), (2, .int v2), (3, .int v3), (4, .int v4)] → hp_S B D s0 Si H locs → W p l e ({ frames := 3, cells := 0, slots := 0, locals := 192 } : Room) s m args below meth c H locs 0 0 (MQ below (hp_Ql B D s0 (fun r S' => S' = Si ∧ Q r)) args s 0 0 (fun q => B < q)) (F0 m 7 ls []) := by
      intro N
      induction N with
      | zero =>
        intro v2 v3 v4 H locs ls hN
        exact absurd hN (Nat.not_lt_zero _)
      | succ N ih7 =>
        intro v2 v3 v4 H locs ls hN hI hl hR
        have h := hst v2 v3 v4 hI
        obtain ⟨K7, hKe7⟩ : ∃ K : Int32 → Int32 → Int32 → Prop, K = (fun v2' v3' v4' => I7 v2' v3' v4' ∧ μ7 v2' v3' v4' < μ7 v2 v3 v4) := ⟨_, rfl⟩
        rw [← hKe7] at h
        have hK7 : ∀ (v2' : Int32) (v3' : Int32) (v4' : Int32) (H : Heap) (locs : List Loc) (ls : Array Slot), K7 v2' v3' v4' → lv_has ls 6 [(0, hp_v B o), (1, .int a1), (2, .int (v2')), (3, .int (v3')), (4, .int (v4'))] → hp_S B D s0 Si H locs → W p l e ({ frames := 3, cells := 0, slots := 0, locals := 192 } : Room) s m args below meth c H locs 0 0 (MQ below (hp_Ql B D s0 (fun r S' => S' = Si ∧ Q r)) args s 0 0 (fun q => B < q)) (F0 m 7 ls []) := by
          intro v2' v3' v4' H locs ls hI hl hR
          rw [hKe7] at hI
          exact ih7 v2' v3' v4' H locs ls (Nat.lt_of_lt_of_le hI.2 (Nat.le_of_lt_succ hN)) hI.1 hl hR
        have b64 : ∀ (v2 : Int32) (v3 : Int32) (v4 : Int32) (H : Heap) (locs : List Loc) (ls : Array Slot), wb_X7_riskOf_64 o a1 v2 v3 v4 Si K7 Q → lv_has ls 6 [(0, hp_v B o), (1, .int a1), (2, .int v2), (3, .int v3), (4, .int v4)] → hp_S B D s0 Si H locs → W p l e ({ frames := 3, cells := 0, slots := 0, locals := 192 } : Room) s m args below meth c H locs 0 0 (MQ below (hp_Ql B D s0 (fun r S' => S' = Si ∧ Q r)) args s 0 0 (fun q => B < q)) (F0 m 64 ls []) := by
          intro v2 v3 v4 H locs ls h hl hR
          unfold wb_X7_riskOf_64 at h
          refine hp_iinc E hl (v4 + (1 : Int32)) 4 (lv' := [(0, hp_v B o), (1, .int a1), (2, .int v2), (3, .int v3)]) dX7_riskOf_64 (rfl : 64 + 3 = 67) rfl (by first | rfl | (congr 1)) (by decide) rfl (fun ls hl => ?_)
          refine hp_goto E (tgt := 7) dX7_riskOf_67 (by decide) ?_
          exact hK7 _ _ _ _ _ _ h (lv_sub hl [1, 2, 3, 4, 0] rfl) hR
        unfold wb_X7_riskOf_7 at h
        refine hp_iload E hl 4 rfl dX7_riskOf_7 (rfl : 7 + 2 = 9) ?_
        refine hp_aload_n E hl 0 rfl 0 rfl dX7_riskOf_9 (rfl : 9 + 1 = 10) ?_
        refine hp_getI E hR in_X7 hc0 rfl 7 (Nat.le_of_ble_eq_true rfl) rfl q1268 (fun _ h => h) dX7_riskOf_10 (rfl : 10 + 3 = 13) ?_
        refine hp_icmp_ge E dX7_riskOf_13 (rfl : 13 + 3 = 16) (tgt := 70) (by decide) (fun hb => ?_) (fun hb => ?_)
        · have h := h.1 hb
          refine hp_aload_n E hl 0 rfl 0 rfl dX7_riskOf_16 (rfl : 16 + 1 = 17) ?_
          refine hp_getR E hR in_X7 hc0 rfl 10 (Nat.le_of_ble_eq_true rfl) rfl q1271 (fun _ h => h) dX7_riskOf_17 (rfl : 17 + 3 = 20) ?_
          refine hp_iload E hl 4 rfl dX7_riskOf_20 (rfl : 20 + 2 = 22) ?_
          obtain ⟨hc701, h⟩ := h
          obtain ⟨hi702, h⟩ := h
          refine hp_iald E hR hc701 hi702 dX7_riskOf_22 (rfl : 22 + 1 = 23) ?_
          refine hp_iload_n E hl 1 rfl 1 rfl dX7_riskOf_23 (rfl : 23 + 1 = 24) ?_
          refine hp_icmp_ne E dX7_riskOf_24 (rfl : 24 + 3 = 27) (tgt := 64) (by decide) (fun hb => ?_) (fun hb => ?_)
          · have h := h.1 hb
            refine hp_aload_n E hl 0 rfl 0 rfl dX7_riskOf_27 (rfl : 27 + 1 = 28) ?_
            refine hp_getR E hR in_X7 hc0 rfl 11 (Nat.le_of_ble_eq_true rfl) rfl q1272 (fun _ h => h) dX7_riskOf_28 (rfl : 28 + 3 = 31) ?_
            refine hp_iload E hl 4 rfl dX7_riskOf_31 (rfl : 31 + 2 = 33) ?_
            obtain ⟨hc703, h⟩ := h
            obtain ⟨hi704, h⟩ := h
            refine hp_iald E hR hc703 hi704 dX7_riskOf_33 (rfl : 33 + 1 = 34) ?_
            refine hp_iconst E (-1 : Int32) (by decide) dX7_riskOf_34 (rfl : 34 + 1 = 35) ?_
            refine hp_icmp_eq E dX7_riskOf_35 (rfl : 35 + 3 = 38) (tgt := 41) (by decide) (fun hb => ?_) (fun hb => ?_)
            · have h := h.1 hb
              refine hp_iload_n E hl 2 rfl 2 rfl dX7_riskOf_41 (rfl : 41 + 1 = 42) ?_
              refine hp_aload_n E hl 0 rfl 0 rfl dX7_riskOf_42 (rfl : 42 + 1 = 43) ?_
              refine hp_getR E hR in_X7 hc0 rfl 12 (Nat.le_of_ble_eq_true rfl) rfl q1273 (fun _ h => h) dX7_riskOf_43 (rfl : 43 + 3 = 46) ?_
              refine hp_iload E hl 4 rfl dX7_riskOf_46 (rfl : 46 + 2 = 48) ?_
              obtain ⟨hc705, h⟩ := h
              obtain ⟨hi706, h⟩ := h
              refine hp_iald E hR hc705 hi706 dX7_riskOf_48 (rfl : 48 + 1 = 49) ?_
              refine hp_iadd E dX7_riskOf_49 (rfl : 49 + 1 = 50) ?_
              refine hp_istore_n E hl 2 rfl (lv' := [(0, hp_v B o), (1, .int a1), (3, .int v3), (4, .int v4)]) dX7_riskOf_50 (rfl : 50 + 1 = 51) (by decide) rfl (fun ls hl => ?_)
              refine hp_iload_n E hl 3 rfl 3 rfl dX7_riskOf_51 (rfl : 51 + 1 = 52) ?_
              refine hp_iconst E (-1 : Int32) (by decide) dX7_riskOf_52 (rfl : 52 + 1 = 53) ?_
              refine hp_icmp_ne E dX7_riskOf_53 (rfl : 53 + 3 = 56) (tgt := 64) (by decide) (fun hb => ?_) (fun hb => ?_)
              · have h := h.1 hb
                refine hp_aload_n E hl 0 rfl 1 rfl dX7_riskOf_56 (rfl : 56 + 1 = 57) ?_
                refine hp_getR E hR in_X7 hc0 rfl 8 (Nat.le_of_ble_eq_true rfl) rfl q1269 (fun _ h => h) dX7_riskOf_57 (rfl : 57 + 3 = 60) ?_
                refine hp_iload E hl 4 rfl dX7_riskOf_60 (rfl : 60 + 2 = 62) ?_
                obtain ⟨hc707, h⟩ := h
                obtain ⟨hi708, h⟩ := h
                refine hp_iald E hR hc707 hi708 dX7_riskOf_62 (rfl : 62 + 1 = 63) ?_
                refine hp_istore_n E hl 3 rfl (lv' := [(2, .int (v2 + (st_I Si (st_R Si o 12) v4.toNatClampNeg))), (0, hp_v B o), (1, .int a1), (4, .int v4)]) dX7_riskOf_63 (rfl : 63 + 1 = 64) (by decide) rfl (fun ls hl => ?_)
                exact b64 _ _ _ _ _ _ h (lv_sub hl [2, 3, 1, 0, 4] rfl) hR
              · have h := h.2 hb
                exact b64 _ _ _ _ _ _ h (lv_sub hl [1, 2, 0, 3, 4] rfl) hR
            · have h := h.2 hb
              refine hp_goto E (tgt := 64) dX7_riskOf_38 (by decide) ?_
              exact b64 _ _ _ _ _ _ h hl hR
          · have h := h.2 hb
            exact b64 _ _ _ _ _ _ h hl hR
        · have h := h.2 hb
          refine hp_iload_n E hl 2 rfl 2 rfl dX7_riskOf_70 (rfl : 70 + 1 = 71) ?_
          refine hp_if_ne E dX7_riskOf_71 (rfl : 71 + 3 = 74) (tgt := 76) (by decide) (fun hb => ?_) (fun hb => ?_)
          · have h := h.1 hb
            refine hp_lconst E (0 : Int64) (by decide) dX7_riskOf_74 (rfl : 74 + 1 = 75) ?_
            exact hp_lret E hR ⟨rfl, h⟩ (Nat.le_of_ble_eq_true rfl) (Nat.le_of_ble_eq_true rfl) dX7_riskOf_75
          · have h := h.2 hb
            refine hp_iconst E (-1 : Int32) (by decide) dX7_riskOf_76 (rfl : 76 + 1 = 77) ?_
            refine hp_istore E hl 4 (lv' := [(0, hp_v B o), (1, .int a1), (2, .int v2), (3, .int v3)]) dX7_riskOf_77 (rfl : 77 + 2 = 79) (by decide) rfl (fun ls hl => ?_)
            refine hp_iconst E (0 : Int32) (by decide) dX7_riskOf_79 (rfl : 79 + 1 = 80) ?_
            refine hp_istore E hl 5 (lv' := [(4, .int (-1 : Int32)), (0, hp_v B o), (1, .int a1), (2, .int v2), (3, .int v3)]) dX7_riskOf_80 (rfl : 80 + 2 = 82) (by decide) rfl (fun ls hl => ?_)
            exact b82 _ _ _ _ _ _ _ h (lv_sub hl [2, 3, 4, 5, 1, 0] rfl) hR
    exact key7 (μ7 v2 v3 v4 + 1) v2 v3 v4 H locs ls (Nat.lt_succ_self _) hI hl hR
  unfold wp_X7_riskOf at h
  refine hp_iconst E (0 : Int32) (by decide) dX7_riskOf_0 (rfl : 0 + 1 = 1) ?_
  refine hp_istore_n E hl 2 rfl (lv' := [(0, hp_v B o), (1, .int a1)]) dX7_riskOf_1 (rfl : 1 + 1 = 2) (by decide) rfl (fun ls hl => ?_)
  refine hp_iconst E (-1 : Int32) (by decide) dX7_riskOf_2 (rfl : 2 + 1 = 3) ?_
  refine hp_istore_n E hl 3 rfl (lv' := [(2, .int (0 : Int32)), (0, hp_v B o), (1, .int a1)]) dX7_riskOf_3 (rfl : 3 + 1 = 4) (by decide) rfl (fun ls hl => ?_)
  refine hp_iconst E (0 : Int32) (by decide) dX7_riskOf_4 (rfl : 4 + 1 = 5) ?_
  refine hp_istore E hl 4 (lv' := [(3, .int (-1 : Int32)), (2, .int (0 : Int32)), (0, hp_v B o), (1, .int a1)]) dX7_riskOf_5 (rfl : 5 + 2 = 7) (by decide) rfl (fun ls hl => ?_)
  exact b7 _ _ _ _ _ _ h (lv_sub hl [3, 4, 2, 1, 0] rfl) hR
def wb_X7_look_134 (o : Nat) (a1 : Int32) (v2 : Int32) (S : hp_St) (K21 : Int32 → Prop) (Q : Int32 → hp_St → Prop) : Prop := K21 (v2 + (1 : Int32))
def wb_X7_look_121 (o : Nat) (a1 : Int32) (v2 : Int32) (v3 : Int32) (v4 : Int32) (S : hp_St) (K21 : Int32 → Prop) (K47 : Int32 → Int32 → Prop) (Q : Int32 → hp_St → Prop) : Prop := K47 v3 (v4 + (1 : Int32))
def wb_X7_look_119 (o : Nat) (a1 : Int32) (v2 : Int32) (v4 : Int32) (t0 : Int32) (t1 : Int32) (S : hp_St) (K21 : Int32 → Prop) (K47 : Int32 → Int32 → Prop) (Q : Int32 → hp_St → Prop) : Prop := wb_X7_look_121 o a1 v2 (t0 + t1) v4 S K21 K47 Q
def wb_X7_look_114 (o : Nat) (a1 : Int32) (v2 : Int32) (v4 : Int32) (t0 : Int32) (S : hp_St) (K21 : Int32 → Prop) (K47 : Int32 → Int32 → Prop) (Q : Int32 → hp_St → Prop) : Prop := wb_X7_look_119 o a1 v2 v4 t0 (1 : Int32) S K21 K47 Q
def wb_X7_look_118 (o : Nat) (a1 : Int32) (v2 : Int32) (v4 : Int32) (t0 : Int32) (S : hp_St) (K21 : Int32 → Prop) (K47 : Int32 → Int32 → Prop) (Q : Int32 → hp_St → Prop) : Prop := wb_X7_look_119 o a1 v2 v4 t0 (0 : Int32) S K21 K47 Q
def wb_X7_look_47 (o : Nat) (a1 : Int32) (v2 : Int32) (v3 : Int32) (v4 : Int32) (S : hp_St) (K21 : Int32 → Prop) (K47 : Int32 → Int32 → Prop) (Q : Int32 → hp_St → Prop) : Prop := (((v4 < (st_I S o 4)) → (((v4 = v2) → wb_X7_look_121 o a1 v2 v3 v4 S K21 K47 Q) ∧ ((¬ (v4 = v2)) → (st_C S (st_R S o 45) = 50) ∧ (vp_in v4 (st_L S (st_R S o 45))) ∧ ((((st_I S (st_R S o 45) v4.toNatClampNeg) = (-1 : Int32)) → wp_X7_riskOf o v4 S (fun z4703 => wp_X7_riskOf o v2 S (fun z4704 => ((((lg_cmp z4703 z4704) ≤ 0) → ((((lg_cmp z4703 z4704) = 0) → (((v4 < v2) → wb_X7_look_114 o a1 v2 v4 v3 S K21 K47 Q) ∧ ((¬ (v4 < v2)) → wb_X7_look_118 o a1 v2 v4 v3 S K21 K47 Q))) ∧ ((¬ ((lg_cmp z4703 z4704) = 0)) → wb_X7_look_118 o a1 v2 v4 v3 S K21 K47 Q))) ∧ ((¬ ((lg_cmp z4703 z4704) ≤ 0)) → wb_X7_look_114 o a1 v2 v4 v3 S K21 K47 Q))))) ∧ ((¬ ((st_I S (st_R S o 45) v4.toNatClampNeg) = (-1 : Int32))) → wb_X7_look_121 o a1 v2 v3 v4 S K21 K47 Q))))) ∧ ((¬ (v4 < (st_I S o 4))) → (((v3 = a1) → Q v2 S) ∧ ((¬ (v3 = a1)) → wb_X7_look_134 o a1 v2 S K21 Q))))
def wl_X7_look_47 (o : Nat) (a1 : Int32) (v2 : Int32) (v3 : Int32) (v4 : Int32) (S : hp_St) (K21 : Int32 → Prop) (Q : Int32 → hp_St → Prop) : Prop := ∃ (I : Int32 → Int32 → Prop) (μ : Int32 → Int32 → Nat), I v3 v4 ∧ ∀ (v3 : Int32) (v4 : Int32), I v3 v4 → wb_X7_look_47 o a1 v2 v3 v4 S K21 (fun v3' v4' => I v3' v4' ∧ μ v3' v4' < μ v3 v4) Q
def wb_X7_look_21 (o : Nat) (a1 : Int32) (v2 : Int32) (S : hp_St) (K21 : Int32 → Prop) (Q : Int32 → hp_St → Prop) : Prop := (((v2 < (st_I S o 4)) → (st_C S (st_R S o 45) = 50) ∧ (vp_in v2 (st_L S (st_R S o 45))) ∧ ((((st_I S (st_R S o 45) v2.toNatClampNeg) = (-1 : Int32)) → wl_X7_look_47 o a1 v2 (0 : Int32) (0 : Int32) S K21 Q) ∧ ((¬ ((st_I S (st_R S o 45) v2.toNatClampNeg) = (-1 : Int32))) → wb_X7_look_134 o a1 v2 S K21 Q))) ∧ ((¬ (v2 < (st_I S o 4))) → Q (-1 : Int32) S))
def wl_X7_look_21 (o : Nat) (a1 : Int32) (v2 : Int32) (S : hp_St) (Q : Int32 → hp_St → Prop) : Prop := ∃ (I : Int32 → Prop) (μ : Int32 → Nat), I v2 ∧ ∀ (v2 : Int32), I v2 → wb_X7_look_21 o a1 v2 S (fun v2' => I v2' ∧ μ v2' < μ v2) Q
def wp_X7_look (o : Nat) (a1 : Int32) (S : hp_St) (Q : Int32 → hp_St → Prop) : Prop := (∀ S1, S1 = st_pI S o 2 (0 : Int32) → (((a1 < 0) → Q (-1 : Int32) S1) ∧ ((¬ (a1 < 0)) → wp_X7_know o (st_I S1 o 3) S1 (fun S4 => hp_mono S1 S4 → wl_X7_look_21 o a1 (0 : Int32) S4 Q))))
theorem nf_X7_look : hp_nf yX7_look 1 = true := by decide +kernel
set_option maxHeartbeats 4000000 in
theorem m_X7_look {l : Launch} {B : Nat} {D : va_G} {s0 : State} {b0 : Nat} (G : hp_G l B D s0 b0) (o : Nat) (a1 : Int32) (Si : hp_St) (Q : Int32 → hp_St → Prop) (hc0 : st_C Si o = 7) (h : wp_X7_look o a1 Si Q) : hp_M l B D s0 yX7_look cX7_look 9 (some .int) 4 256 0 0 [hp_v B o, .int a1] Si (hp_Qi B D s0 (fun r S' => hp_mono Si S' ∧ Q r S')) := by
  refine hp_start G (by decide +kernel) rfl rfl (lv := [(0, hp_v B o), (1, .int a1)]) (by simp [lg_sl, hp_vc, hp_ci, hp_cj]) (by simp [lv_args, hp_vc, hp_ci, hp_cj]) ?_
  intro p e s m args below meth c E ls hl hR
  have hm : hp_mono Si Si := hp_mono.rf
  generalize hH : s.heap = H at hR ⊢
  generalize hLo : ([] : List Loc) = locs at hR ⊢
  have b21 : ∀ (v2 : Int32) (S : hp_St) (H : Heap) (locs : List Loc) (ls : Array Slot), wl_X7_look_21 o a1 v2 S Q → lv_has ls 9 [(0, hp_v B o), (1, .int a1), (2, .int v2)] → hp_S B D s0 S H locs → hp_mono Si S → W p l e ({ frames := 4, cells := 0, slots := 0, locals := 256 } : Room) s m args below meth c H locs 0 0 (MQ below (hp_Qi B D s0 (fun r S' => hp_mono Si S' ∧ Q r S')) args s 0 0 (fun q => B < q)) (F0 m 21 ls []) := by
    intro v2 S H locs ls h hl hR hm
    obtain ⟨I21, μ21, hI, hst⟩ := h
    have key21 : ∀ (N : Nat) (v2 : Int32) (H : Heap) (locs : List Loc) (ls : Array Slot), μ21 v2 < N → I21 v2 → lv_has ls 9 [(0, hp_v B o), (1, .int a1), (2, .int v2)] → hp_S B D s0 S H locs → W p l e ({ frames := 4, cells := 0, slots := 0, locals := 256 } : Room) s m args below meth c H locs 0 0 (MQ below (hp_Qi B D s0 (fun r S' => hp_mono Si S' ∧ Q r S')) args s 0 0 (fun q => B < q)) (F0 m 21 ls []) := by
      intro N
      induction N with
      | zero =>
        intro v2 H locs ls hN
        exact absurd hN (Nat.not_lt_zero _)
      | succ N ih21 =>
        intro v2 H locs ls hN hI hl hR
        have h := hst v2 hI
        obtain ⟨K21, hKe21⟩ : ∃ K : Int32 → Prop, K = (fun v2' => I21 v2' ∧ μ21 v2' < μ21 v2) := ⟨_, rfl⟩
        rw [← hKe21] at h
        have hK21 : ∀ (v2' : Int32) (H : Heap) (locs : List Loc) (ls : Array Slot), K21 v2' → lv_has ls 9 [(0, hp_v B o), (1, .int a1), (2, .int (v2'))] → hp_S B D s0 S H locs → W p l e ({ frames := 4, cells := 0, slots := 0, locals := 256 } : Room) s m args below meth c H locs 0 0 (MQ below (hp_Qi B D s0 (fun r S' => hp_mono Si S' ∧ Q r S')) args s 0 0 (fun q => B < q)) (F0 m 21 ls []) := by
          intro v2' H locs ls hI hl hR
          rw [hKe21] at hI
          exact ih21 v2' H locs ls (Nat.lt_of_lt_of_le hI.2 (Nat.le_of_lt_succ hN)) hI.1 hl hR
        have b134 : ∀ (v2 : Int32) (H : Heap) (locs : List Loc) (ls : Array Slot), wb_X7_look_134 o a1 v2 S K21 Q → lv_has ls 9 [(0, hp_v B o), (1, .int a1), (2, .int v2)] → hp_S B D s0 S H locs → W p l e ({ frames := 4, cells := 0, slots := 0, locals := 256 } : Room) s m args below meth c H locs 0 0 (MQ below (hp_Qi B D s0 (fun r S' => hp_mono Si S' ∧ Q r S')) args s 0 0 (fun q => B < q)) (F0 m 134 ls []) := by
          intro v2 H locs ls h hl hR
          unfold wb_X7_look_134 at h
          refine hp_iinc E hl (v2 + (1 : Int32)) 2 (lv' := [(0, hp_v B o), (1, .int a1)]) dX7_look_134 (rfl : 134 + 3 = 137) rfl (by first | rfl | (congr 1)) (by decide) rfl (fun ls hl => ?_)
          refine hp_goto E (tgt := 21) dX7_look_137 (by decide) ?_
          exact hK21 _ _ _ _ h (lv_sub hl [1, 2, 0] rfl) hR
        have b47 : ∀ (v2 : Int32) (v3 : Int32) (v4 : Int32) (H : Heap) (locs : List Loc) (ls : Array Slot), wl_X7_look_47 o a1 v2 v3 v4 S K21 Q → lv_has ls 9 [(0, hp_v B o), (1, .int a1), (2, .int v2), (3, .int v3), (4, .int v4)] → hp_S B D s0 S H locs → W p l e ({ frames := 4, cells := 0, slots := 0, locals := 256 } : Room) s m args below meth c H locs 0 0 (MQ below (hp_Qi B D s0 (fun r S' => hp_mono Si S' ∧ Q r S')) args s 0 0 (fun q => B < q)) (F0 m 47 ls []) := by
          intro v2 v3 v4 H locs ls h hl hR
          obtain ⟨I47, μ47, hI, hst⟩ := h
          have key47 : ∀ (N : Nat) (v3 : Int32) (v4 : Int32) (H : Heap) (locs : List Loc) (ls : Array Slot), μ47 v3 v4 < N → I47 v3 v4 → lv_has ls 9 [(0, hp_v B o), (1, .int a1), (2, .int v2), (3, .int v3), (4, .int v4)] → hp_S B D s0 S H locs → W p l e ({ frames := 4, cells := 0, slots := 0, locals := 256 } : Room) s m args below meth c H locs 0 0 (MQ below (hp_Qi B D s0 (fun r S' => hp_mono Si S' ∧ Q r S')) args s 0 0 (fun q => B < q)) (F0 m 47 ls []) := by
            intro N
            induction N with
            | zero =>
              intro v3 v4 H locs ls hN
              exact absurd hN (Nat.not_lt_zero _)
            | succ N ih47 =>
              intro v3 v4 H locs ls hN hI hl hR
              have h := hst v3 v4 hI
              obtain ⟨K47, hKe47⟩ : ∃ K : Int32 → Int32 → Prop, K = (fun v3' v4' => I47 v3' v4' ∧ μ47 v3' v4' < μ47 v3 v4) := ⟨_, rfl⟩
              rw [← hKe47] at h
              have hK47 : ∀ (v3' : Int32) (v4' : Int32) (H : Heap) (locs : List Loc) (ls : Array Slot), K47 v3' v4' → lv_has ls 9 [(0, hp_v B o), (1, .int a1), (2, .int v2), (3, .int (v3')), (4, .int (v4'))] → hp_S B D s0 S H locs → W p l e ({ frames := 4, cells := 0, slots := 0, locals := 256 } : Room) s m args below meth c H locs 0 0 (MQ below (hp_Qi B D s0 (fun r S' => hp_mono Si S' ∧ Q r S')) args s 0 0 (fun q => B < q)) (F0 m 47 ls []) := by
                intro v3' v4' H locs ls hI hl hR
                rw [hKe47] at hI
                exact ih47 v3' v4' H locs ls (Nat.lt_of_lt_of_le hI.2 (Nat.le_of_lt_succ hN)) hI.1 hl hR
              have b121 : ∀ (v3 : Int32) (v4 : Int32) (H : Heap) (locs : List Loc) (ls : Array Slot), wb_X7_look_121 o a1 v2 v3 v4 S K21 K47 Q → lv_has ls 9 [(0, hp_v B o), (1, .int a1), (2, .int v2), (3, .int v3), (4, .int v4)] → hp_S B D s0 S H locs → W p l e ({ frames := 4, cells := 0, slots := 0, locals := 256 } : Room) s m args below meth c H locs 0 0 (MQ below (hp_Qi B D s0 (fun r S' => hp_mono Si S' ∧ Q r S')) args s 0 0 (fun q => B < q)) (F0 m 121 ls []) := by
                intro v3 v4 H locs ls h hl hR
                unfold wb_X7_look_121 at h
                refine hp_iinc E hl (v4 + (1 : Int32)) 4 (lv' := [(0, hp_v B o), (1, .int a1), (2, .int v2), (3, .int v3)]) dX7_look_121 (rfl : 121 + 3 = 124) rfl (by first | rfl | (congr 1)) (by decide) rfl (fun ls hl => ?_)
                refine hp_goto E (tgt := 47) dX7_look_124 (by decide) ?_
                exact hK47 _ _ _ _ _ h (lv_sub hl [1, 2, 3, 4, 0] rfl) hR
              have b119 : ∀ (v4 : Int32) (t0 : Int32) (t1 : Int32) (H : Heap) (locs : List Loc) (ls : Array Slot), wb_X7_look_119 o a1 v2 v4 t0 t1 S K21 K47 Q → lv_has ls 9 [(0, hp_v B o), (1, .int a1), (2, .int v2), (4, .int v4)] → hp_S B D s0 S H locs → W p l e ({ frames := 4, cells := 0, slots := 0, locals := 256 } : Room) s m args below meth c H locs 0 0 (MQ below (hp_Qi B D s0 (fun r S' => hp_mono Si S' ∧ Q r S')) args s 0 0 (fun q => B < q)) (F0 m 119 ls [.int t1, .int t0]) := by
                intro v4 t0 t1 H locs ls h hl hR
                unfold wb_X7_look_119 at h
                refine hp_iadd E dX7_look_119 (rfl : 119 + 1 = 120) ?_
                refine hp_istore_n E hl 3 rfl (lv' := [(0, hp_v B o), (1, .int a1), (2, .int v2), (4, .int v4)]) dX7_look_120 (rfl : 120 + 1 = 121) (by decide) rfl (fun ls hl => ?_)
                exact b121 _ _ _ _ _ h (lv_sub hl [1, 2, 3, 0, 4] rfl) hR
              have b114 : ∀ (v4 : Int32) (t0 : Int32) (H : Heap) (locs : List Loc) (ls : Array Slot), wb_X7_look_114 o a1 v2 v4 t0 S K21 K47 Q → lv_has ls 9 [(0, hp_v B o), (1, .int a1), (2, .int v2), (4, .int v4)] → hp_S B D s0 S H locs → W p l e ({ frames := 4, cells := 0, slots := 0, locals := 256 } : Room) s m args below meth c H locs 0 0 (MQ below (hp_Qi B D s0 (fun r S' => hp_mono Si S' ∧ Q r S')) args s 0 0 (fun q => B < q)) (F0 m 114 ls [.int t0]) := by
                intro v4 t0 H locs ls h hl hR
                unfold wb_X7_look_114 at h
                refine hp_iconst E (1 : Int32) (by decide) dX7_look_114 (rfl : 114 + 1 = 115) ?_
                refine hp_goto E (tgt := 119) dX7_look_115 (by decide) ?_
                exact b119 _ _ _ _ _ _ h hl hR
              have b118 : ∀ (v4 : Int32) (t0 : Int32) (H : Heap) (locs : List Loc) (ls : Array Slot), wb_X7_look_118 o a1 v2 v4 t0 S K21 K47 Q → lv_has ls 9 [(0, hp_v B o), (1, .int a1), (2, .int v2), (4, .int v4)] → hp_S B D s0 S H locs → W p l e ({ frames := 4, cells := 0, slots := 0, locals := 256 } : Room) s m args below meth c H locs 0 0 (MQ below (hp_Qi B D s0 (fun r S' => hp_mono Si S' ∧ Q r S')) args s 0 0 (fun q => B < q)) (F0 m 118 ls [.int t0]) := by
                intro v4 t0 H locs ls h hl hR
                unfold wb_X7_look_118 at h
                refine hp_iconst E (0 : Int32) (by decide) dX7_look_118 (rfl : 118 + 1 = 119) ?_
                exact b119 _ _ _ _ _ _ h hl hR
              unfold wb_X7_look_47 at h
              refine hp_iload E hl 4 rfl dX7_look_47 (rfl : 47 + 2 = 49) ?_
              refine hp_aload_n E hl 0 rfl 0 rfl dX7_look_49 (rfl : 49 + 1 = 50) ?_
              refine hp_getI E hR in_X7 (hp_mono.c hm hc0) rfl 4 (Nat.le_of_ble_eq_true rfl) rfl q1265 (fun _ h => h) dX7_look_50 (rfl : 50 + 3 = 53) ?_
              refine hp_icmp_ge E dX7_look_53 (rfl : 53 + 3 = 56) (tgt := 127) (by decide) (fun hb => ?_) (fun hb => ?_)
              · have h := h.1 hb
                refine hp_iload E hl 4 rfl dX7_look_56 (rfl : 56 + 2 = 58) ?_
                refine hp_iload_n E hl 2 rfl 2 rfl dX7_look_58 (rfl : 58 + 1 = 59) ?_
                refine hp_icmp_eq E dX7_look_59 (rfl : 59 + 3 = 62) (tgt := 121) (by decide) (fun hb => ?_) (fun hb => ?_)
                · have h := h.1 hb
                  exact b121 _ _ _ _ _ h hl hR
                · have h := h.2 hb
                  refine hp_aload_n E hl 0 rfl 0 rfl dX7_look_62 (rfl : 62 + 1 = 63) ?_
                  refine hp_getR E hR in_X7 (hp_mono.c hm hc0) rfl 45 (Nat.le_of_ble_eq_true rfl) rfl q1306 (fun _ h => h) dX7_look_63 (rfl : 63 + 3 = 66) ?_
                  refine hp_iload E hl 4 rfl dX7_look_66 (rfl : 66 + 2 = 68) ?_
                  obtain ⟨hc4701, h⟩ := h
                  obtain ⟨hi4702, h⟩ := h
                  refine hp_iald E hR hc4701 hi4702 dX7_look_68 (rfl : 68 + 1 = 69) ?_
                  refine hp_iconst E (-1 : Int32) (by decide) dX7_look_69 (rfl : 69 + 1 = 70) ?_
                  refine hp_icmp_eq E dX7_look_70 (rfl : 70 + 3 = 73) (tgt := 76) (by decide) (fun hb => ?_) (fun hb => ?_)
                  · have h := h.1 hb
                    refine hp_aload_n E hl 0 rfl 0 rfl dX7_look_76 (rfl : 76 + 1 = 77) ?_
                    refine hp_iload E hl 4 rfl dX7_look_77 (rfl : 77 + 2 = 79) ?_
                    refine hp_fl (hp_rV E hR hl (m_X7_riskOf G _ _ _ _ (hp_mono.c hm hc0) h) (hp_mono.c hm hc0) (ci := 6) rfl rfl q1694 q1696 qs69 q82 q1697 nf_X7_riskOf ⟨Nat.le_of_ble_eq_true rfl, Nat.le_of_ble_eq_true rfl⟩ (rest := []) rfl (Nat.le_of_ble_eq_true rfl) dX7_look_79 ⟨Nat.le_of_ble_eq_true rfl, Nat.le_of_ble_eq_true rfl⟩) hR (rfl : 79 + 3 = 82) (fun z4703 Sx H locs hq hR => ?_)
                    obtain ⟨hSx, h⟩ := hq
                    rw [hSx] at hR
                    refine hp_lstore E hl 5 (lv' := [(0, hp_v B o), (1, .int a1), (2, .int v2), (3, .int v3), (4, .int v4)]) dX7_look_82 (rfl : 82 + 2 = 84) (by decide) rfl (fun ls hl => ?_)
                    refine hp_aload_n E hl 0 rfl 1 rfl dX7_look_84 (rfl : 84 + 1 = 85) ?_
                    refine hp_iload_n E hl 2 rfl 3 rfl dX7_look_85 (rfl : 85 + 1 = 86) ?_
                    refine hp_fl (hp_rV E hR hl (m_X7_riskOf G _ _ _ _ (hp_mono.c hm hc0) h) (hp_mono.c hm hc0) (ci := 6) rfl rfl q1694 q1696 qs69 q82 q1697 nf_X7_riskOf ⟨Nat.le_of_ble_eq_true rfl, Nat.le_of_ble_eq_true rfl⟩ (rest := []) rfl (Nat.le_of_ble_eq_true rfl) dX7_look_86 ⟨Nat.le_of_ble_eq_true rfl, Nat.le_of_ble_eq_true rfl⟩) hR (rfl : 86 + 3 = 89) (fun z4704 Sx H locs hq hR => ?_)
                    obtain ⟨hSx, h⟩ := hq
                    rw [hSx] at hR
                    refine hp_lstore E hl 7 (lv' := [(5, .long z4703), (0, hp_v B o), (1, .int a1), (2, .int v2), (3, .int v3), (4, .int v4)]) dX7_look_89 (rfl : 89 + 2 = 91) (by decide) rfl (fun ls hl => ?_)
                    refine hp_iload_n E hl 3 rfl 5 rfl dX7_look_91 (rfl : 91 + 1 = 92) ?_
                    refine hp_lload E hl 1 rfl dX7_look_92 (rfl : 92 + 2 = 94) ?_
                    refine hp_lload E hl 0 rfl dX7_look_94 (rfl : 94 + 2 = 96) ?_
                    refine hp_lcmp E dX7_look_96 (rfl : 96 + 1 = 97) ?_
                    refine hp_if_gt E dX7_look_97 (rfl : 97 + 3 = 100) (tgt := 114) (by decide) (fun hb => ?_) (fun hb => ?_)
                    · have h := h.1 hb
                      refine hp_lload E hl 1 rfl dX7_look_100 (rfl : 100 + 2 = 102) ?_
                      refine hp_lload E hl 0 rfl dX7_look_102 (rfl : 102 + 2 = 104) ?_
                      refine hp_lcmp E dX7_look_104 (rfl : 104 + 1 = 105) ?_
                      refine hp_if_ne E dX7_look_105 (rfl : 105 + 3 = 108) (tgt := 118) (by decide) (fun hb => ?_) (fun hb => ?_)
                      · have h := h.1 hb
                        refine hp_iload E hl 6 rfl dX7_look_108 (rfl : 108 + 2 = 110) ?_
                        refine hp_iload_n E hl 2 rfl 4 rfl dX7_look_110 (rfl : 110 + 1 = 111) ?_
                        refine hp_icmp_ge E dX7_look_111 (rfl : 111 + 3 = 114) (tgt := 118) (by decide) (fun hb => ?_) (fun hb => ?_)
                        · have h := h.1 hb
                          exact b114 _ _ _ _ _ h (lv_sub hl [2, 3, 4, 6] rfl) hR
                        · have h := h.2 hb
                          exact b118 _ _ _ _ _ h (lv_sub hl [2, 3, 4, 6] rfl) hR
                      · have h := h.2 hb
                        exact b118 _ _ _ _ _ h (lv_sub hl [2, 3, 4, 6] rfl) hR
                    · have h := h.2 hb
                      exact b114 _ _ _ _ _ h (lv_sub hl [2, 3, 4, 6] rfl) hR
                  · have h := h.2 hb
                    refine hp_goto E (tgt := 121) dX7_look_73 (by decide) ?_
                    exact b121 _ _ _ _ _ h hl hR
              · have h := h.2 hb
                refine hp_iload_n E hl 3 rfl 3 rfl dX7_look_127 (rfl : 127 + 1 = 128) ?_
                refine hp_iload_n E hl 1 rfl 1 rfl dX7_look_128 (rfl : 128 + 1 = 129) ?_
                refine hp_icmp_ne E dX7_look_129 (rfl : 129 + 3 = 132) (tgt := 134) (by decide) (fun hb => ?_) (fun hb => ?_)
                · have h := h.1 hb
                  refine hp_iload_n E hl 2 rfl 2 rfl dX7_look_132 (rfl : 132 + 1 = 133) ?_
                  exact hp_iret E hR ⟨hm, h⟩ (Nat.le_of_ble_eq_true rfl) (Nat.le_of_ble_eq_true rfl) dX7_look_133
                · have h := h.2 hb
                  exact b134 _ _ _ _ h (lv_sub hl [0, 1, 2] rfl) hR
          exact key47 (μ47 v3 v4 + 1) v3 v4 H locs ls (Nat.lt_succ_self _) hI hl hR
        unfold wb_X7_look_21 at h
        refine hp_iload_n E hl 2 rfl 2 rfl dX7_look_21 (rfl : 21 + 1 = 22) ?_
        refine hp_aload_n E hl 0 rfl 0 rfl dX7_look_22 (rfl : 22 + 1 = 23) ?_
        refine hp_getI E hR in_X7 (hp_mono.c hm hc0) rfl 4 (Nat.le_of_ble_eq_true rfl) rfl q1265 (fun _ h => h) dX7_look_23 (rfl : 23 + 3 = 26) ?_
        refine hp_icmp_ge E dX7_look_26 (rfl : 26 + 3 = 29) (tgt := 140) (by decide) (fun hb => ?_) (fun hb => ?_)
        · have h := h.1 hb
          refine hp_aload_n E hl 0 rfl 0 rfl dX7_look_29 (rfl : 29 + 1 = 30) ?_
          refine hp_getR E hR in_X7 (hp_mono.c hm hc0) rfl 45 (Nat.le_of_ble_eq_true rfl) rfl q1306 (fun _ h => h) dX7_look_30 (rfl : 30 + 3 = 33) ?_
          refine hp_iload_n E hl 2 rfl 2 rfl dX7_look_33 (rfl : 33 + 1 = 34) ?_
          obtain ⟨hc2101, h⟩ := h
          obtain ⟨hi2102, h⟩ := h
          refine hp_iald E hR hc2101 hi2102 dX7_look_34 (rfl : 34 + 1 = 35) ?_
          refine hp_iconst E (-1 : Int32) (by decide) dX7_look_35 (rfl : 35 + 1 = 36) ?_
          refine hp_icmp_eq E dX7_look_36 (rfl : 36 + 3 = 39) (tgt := 42) (by decide) (fun hb => ?_) (fun hb => ?_)
          · have h := h.1 hb
            refine hp_iconst E (0 : Int32) (by decide) dX7_look_42 (rfl : 42 + 1 = 43) ?_
            refine hp_istore_n E hl 3 rfl (lv' := [(0, hp_v B o), (1, .int a1), (2, .int v2)]) dX7_look_43 (rfl : 43 + 1 = 44) (by decide) rfl (fun ls hl => ?_)
            refine hp_iconst E (0 : Int32) (by decide) dX7_look_44 (rfl : 44 + 1 = 45) ?_
            refine hp_istore E hl 4 (lv' := [(3, .int (0 : Int32)), (0, hp_v B o), (1, .int a1), (2, .int v2)]) dX7_look_45 (rfl : 45 + 2 = 47) (by decide) rfl (fun ls hl => ?_)
            exact b47 _ _ _ _ _ _ h (lv_sub hl [2, 3, 4, 1, 0] rfl) hR
          · have h := h.2 hb
            refine hp_goto E (tgt := 134) dX7_look_39 (by decide) ?_
            exact b134 _ _ _ _ h hl hR
        · have h := h.2 hb
          refine hp_iconst E (-1 : Int32) (by decide) dX7_look_140 (rfl : 140 + 1 = 141) ?_
          exact hp_iret E hR ⟨hm, h⟩ (Nat.le_of_ble_eq_true rfl) (Nat.le_of_ble_eq_true rfl) dX7_look_141
    exact key21 (μ21 v2 + 1) v2 H locs ls (Nat.lt_succ_self _) hI hl hR
  unfold wp_X7_look at h
  refine hp_aload_n E hl 0 rfl 0 rfl dX7_look_0 (rfl : 0 + 1 = 1) ?_
  refine hp_iconst E (0 : Int32) (by decide) dX7_look_1 (rfl : 1 + 1 = 2) ?_
  refine hx_putI E hR in_X7 tyX7 tyX7_ok nmX7 hc0 rfl 2 (Nat.le_of_ble_eq_true rfl) rfl q1263 (fun _ h => h) (Or.inl rfl) (Or.inl rfl) dX7_look_2 (rfl : 2 + 3 = 5) (fun S1 H locs e3 hm2 hR => ?_)
  have h := h S1 e3
  have hm := hp_mono.tr hm hm2
  refine hp_iload_n E hl 1 rfl 1 rfl dX7_look_5 (rfl : 5 + 1 = 6) ?_
  refine hp_if_ge E dX7_look_6 (rfl : 6 + 3 = 9) (tgt := 11) (by decide) (fun hb => ?_) (fun hb => ?_)
  · have h := h.1 hb
    refine hp_iconst E (-1 : Int32) (by decide) dX7_look_9 (rfl : 9 + 1 = 10) ?_
    exact hp_iret E hR ⟨hm, h⟩ (Nat.le_of_ble_eq_true rfl) (Nat.le_of_ble_eq_true rfl) dX7_look_10
  · have h := h.2 hb
    refine hp_aload_n E hl 0 rfl 0 rfl dX7_look_11 (rfl : 11 + 1 = 12) ?_
    refine hp_aload_n E hl 0 rfl 0 rfl dX7_look_12 (rfl : 12 + 1 = 13) ?_
    refine hp_getI E hR in_X7 (hp_mono.c hm hc0) rfl 3 (Nat.le_of_ble_eq_true rfl) rfl q1264 (fun _ h => h) dX7_look_13 (rfl : 13 + 3 = 16) ?_
    refine hp_fv (hp_rV E hR hl (m_X7_know G _ _ _ _ (hp_mono.c hm hc0) h) (hp_mono.c hm hc0) (ci := 6) rfl rfl q1581 q1583 qs53 q82 q1584 nf_X7_know ⟨Nat.le_of_ble_eq_true rfl, Nat.le_of_ble_eq_true rfl⟩ (rest := []) rfl (Nat.le_of_ble_eq_true rfl) dX7_look_16 ⟨Nat.le_of_ble_eq_true rfl, Nat.le_of_ble_eq_true rfl⟩) hR (rfl : 16 + 3 = 19) (fun S4 H locs hq hR => ?_)
    obtain ⟨hm5, h⟩ := hq
    have h := h hm5
    have hm := hp_mono.tr hm hm5
    refine hp_iconst E (0 : Int32) (by decide) dX7_look_19 (rfl : 19 + 1 = 20) ?_
    refine hp_istore_n E hl 2 rfl (lv' := [(0, hp_v B o), (1, .int a1)]) dX7_look_20 (rfl : 20 + 1 = 21) (by decide) rfl (fun ls hl => ?_)
    exact b21 _ _ _ _ _ h (lv_sub hl [1, 2, 0] rfl) hR hm
def wp_X7_fails (o : Nat) (a1 : Int32) (S : hp_St) (Q : Int64 → hp_St → Prop) : Prop := (∀ S1, S1 = st_pI S o 2 a1 → Q (0 : Int64) S1)
theorem nf_X7_fails : hp_nf yX7_fails 1 = true := by decide +kernel
set_option maxHeartbeats 4000000 in
theorem m_X7_fails {l : Launch} {B : Nat} {D : va_G} {s0 : State} {b0 : Nat} (G : hp_G l B D s0 b0) (o : Nat) (a1 : Int32) (Si : hp_St) (Q : Int64 → hp_St → Prop) (hc0 : st_C Si o = 7) (h : wp_X7_fails o a1 Si Q) : hp_M l B D s0 yX7_fails cX7_fails 2 (some .long) 2 128 0 0 [hp_v B o, .int a1] Si (hp_Ql B D s0 (fun r S' => hp_mono Si S' ∧ Q r S')) := by
  refine hp_start G (by decide +kernel) rfl rfl (lv := [(0, hp_v B o), (1, .int a1)]) (by simp [lg_sl, hp_vc, hp_ci, hp_cj]) (by simp [lv_args, hp_vc, hp_ci, hp_cj]) ?_
  intro p e s m args below meth c E ls hl hR
  have hm : hp_mono Si Si := hp_mono.rf
  unfold wp_X7_fails at h
  refine hp_aload_n E hl 0 rfl 0 rfl dX7_fails_0 (rfl : 0 + 1 = 1) ?_
  refine hp_iload_n E hl 1 rfl 1 rfl dX7_fails_1 (rfl : 1 + 1 = 2) ?_
  refine hx_putI E hR in_X7 tyX7 tyX7_ok nmX7 hc0 rfl 2 (Nat.le_of_ble_eq_true rfl) rfl q1263 (fun _ h => h) (Or.inl rfl) (Or.inl rfl) dX7_fails_2 (rfl : 2 + 3 = 5) (fun S1 H locs e3 hm2 hR => ?_)
  have h := h S1 e3
  have hm := hp_mono.tr hm hm2
  refine hp_lconst E (0 : Int64) (by decide) dX7_fails_5 (rfl : 5 + 1 = 6) ?_
  exact hp_lret E hR ⟨hm, h⟩ (Nat.le_of_ble_eq_true rfl) (Nat.le_of_ble_eq_true rfl) dX7_fails_6
def wb_X7_risk_50 (o : Nat) (a1 : Int32) (t0 : Int64) (S : hp_St) (Q : Int64 → hp_St → Prop) : Prop := Q t0 S
def wp_X7_risk (o : Nat) (a1 : Int32) (S : hp_St) (Q : Int64 → hp_St → Prop) : Prop := (∀ S1, S1 = st_pI S o 2 (0 : Int32) → wp_X7_isLife o a1 S1 (fun z4 => (((z4 = 0) → wp_X7_fails o (1 : Int32) S1 (fun z5 S6 => hp_mono S1 S6 → Q z5 S6)) ∧ ((¬ (z4 = 0)) → wp_X7_know o (st_I S1 o 3) S1 (fun S8 => hp_mono S1 S8 → (st_C S8 (st_R S8 o 45) = 50) ∧ (vp_in a1 (st_L S8 (st_R S8 o 45))) ∧ ((((st_I S8 (st_R S8 o 45) a1.toNatClampNeg) = (-1 : Int32)) → wp_X7_riskOf o a1 S8 (fun z12 => wb_X7_risk_50 o a1 z12 S8 Q)) ∧ ((¬ ((st_I S8 (st_R S8 o 45) a1.toNatClampNeg) = (-1 : Int32))) → wp_X7_fails o (2 : Int32) S8 (fun z13 S14 => hp_mono S8 S14 → wb_X7_risk_50 o a1 z13 S14 Q))))))))
theorem nf_X7_risk : hp_nf yX7_risk 1 = true := by decide +kernel
set_option maxHeartbeats 4000000 in
theorem m_X7_risk {l : Launch} {B : Nat} {D : va_G} {s0 : State} {b0 : Nat} (G : hp_G l B D s0 b0) (o : Nat) (a1 : Int32) (Si : hp_St) (Q : Int64 → hp_St → Prop) (hc0 : st_C Si o = 7) (h : wp_X7_risk o a1 Si Q) : hp_M l B D s0 yX7_risk cX7_risk 2 (some .long) 4 256 0 0 [hp_v B o, .int a1] Si (hp_Ql B D s0 (fun r S' => hp_mono Si S' ∧ Q r S')) := by
  refine hp_start G (by decide +kernel) rfl rfl (lv := [(0, hp_v B o), (1, .int a1)]) (by simp [lg_sl, hp_vc, hp_ci, hp_cj]) (by simp [lv_args, hp_vc, hp_ci, hp_cj]) ?_
  intro p e s m args below meth c E ls hl hR
  have hm : hp_mono Si Si := hp_mono.rf
  generalize hH : s.heap = H at hR ⊢
  generalize hLo : ([] : List Loc) = locs at hR ⊢
  have b50 : ∀ (t0 : Int64) (S : hp_St) (H : Heap) (locs : List Loc) (ls : Array Slot), wb_X7_risk_50 o a1 t0 S Q → lv_has ls 2 [] → hp_S B D s0 S H locs → hp_mono Si S → W p l e ({ frames := 4, cells := 0, slots := 0, locals := 256 } : Room) s m args below meth c H locs 0 0 (MQ below (hp_Ql B D s0 (fun r S' => hp_mono Si S' ∧ Q r S')) args s 0 0 (fun q => B < q)) (F0 m 50 ls [.long t0]) := by
    intro t0 S H locs ls h hl hR hm
    unfold wb_X7_risk_50 at h
    exact hp_lret E hR ⟨hm, h⟩ (Nat.le_of_ble_eq_true rfl) (Nat.le_of_ble_eq_true rfl) dX7_risk_50
  unfold wp_X7_risk at h
  refine hp_aload_n E hl 0 rfl 0 rfl dX7_risk_0 (rfl : 0 + 1 = 1) ?_
  refine hp_iconst E (0 : Int32) (by decide) dX7_risk_1 (rfl : 1 + 1 = 2) ?_
  refine hx_putI E hR in_X7 tyX7 tyX7_ok nmX7 hc0 rfl 2 (Nat.le_of_ble_eq_true rfl) rfl q1263 (fun _ h => h) (Or.inl rfl) (Or.inl rfl) dX7_risk_2 (rfl : 2 + 3 = 5) (fun S1 H locs e3 hm2 hR => ?_)
  have h := h S1 e3
  have hm := hp_mono.tr hm hm2
  refine hp_aload_n E hl 0 rfl 0 rfl dX7_risk_5 (rfl : 5 + 1 = 6) ?_
  refine hp_iload_n E hl 1 rfl 1 rfl dX7_risk_6 (rfl : 6 + 1 = 7) ?_
  refine hp_fi (hp_rV E hR hl (m_X7_isLife G _ _ _ _ (hp_mono.c hm hc0) h) (hp_mono.c hm hc0) (ci := 6) rfl rfl q1515 q1517 qs44 q82 q1518 nf_X7_isLife ⟨Nat.le_of_ble_eq_true rfl, Nat.le_of_ble_eq_true rfl⟩ (rest := []) rfl (Nat.le_of_ble_eq_true rfl) dX7_risk_7 ⟨Nat.le_of_ble_eq_true rfl, Nat.le_of_ble_eq_true rfl⟩) hR (rfl : 7 + 3 = 10) (fun z4 Sx H locs hq hR => ?_)
  obtain ⟨hSx, h⟩ := hq
  rw [hSx] at hR
  refine hp_if_ne E dX7_risk_10 (rfl : 10 + 3 = 13) (tgt := 19) (by decide) (fun hb => ?_) (fun hb => ?_)
  · have h := h.1 hb
    refine hp_aload_n E hl 0 rfl 0 rfl dX7_risk_13 (rfl : 13 + 1 = 14) ?_
    refine hp_iconst E (1 : Int32) (by decide) dX7_risk_14 (rfl : 14 + 1 = 15) ?_
    refine hp_fl (hp_rV E hR hl (m_X7_fails G _ _ _ _ (hp_mono.c hm hc0) h) (hp_mono.c hm hc0) (ci := 6) rfl rfl q1702 q1704 qs70 q82 q1705 nf_X7_fails ⟨Nat.le_of_ble_eq_true rfl, Nat.le_of_ble_eq_true rfl⟩ (rest := []) rfl (Nat.le_of_ble_eq_true rfl) dX7_risk_15 ⟨Nat.le_of_ble_eq_true rfl, Nat.le_of_ble_eq_true rfl⟩) hR (rfl : 15 + 3 = 18) (fun z5 S6 H locs hq hR => ?_)
    obtain ⟨hm7, h⟩ := hq
    have h := h hm7
    have hm := hp_mono.tr hm hm7
    exact hp_lret E hR ⟨hm, h⟩ (Nat.le_of_ble_eq_true rfl) (Nat.le_of_ble_eq_true rfl) dX7_risk_18
  · have h := h.2 hb
    refine hp_aload_n E hl 0 rfl 0 rfl dX7_risk_19 (rfl : 19 + 1 = 20) ?_
    refine hp_aload_n E hl 0 rfl 0 rfl dX7_risk_20 (rfl : 20 + 1 = 21) ?_
    refine hp_getI E hR in_X7 (hp_mono.c hm hc0) rfl 3 (Nat.le_of_ble_eq_true rfl) rfl q1264 (fun _ h => h) dX7_risk_21 (rfl : 21 + 3 = 24) ?_
    refine hp_fv (hp_rV E hR hl (m_X7_know G _ _ _ _ (hp_mono.c hm hc0) h) (hp_mono.c hm hc0) (ci := 6) rfl rfl q1581 q1583 qs53 q82 q1584 nf_X7_know ⟨Nat.le_of_ble_eq_true rfl, Nat.le_of_ble_eq_true rfl⟩ (rest := []) rfl (Nat.le_of_ble_eq_true rfl) dX7_risk_24 ⟨Nat.le_of_ble_eq_true rfl, Nat.le_of_ble_eq_true rfl⟩) hR (rfl : 24 + 3 = 27) (fun S8 H locs hq hR => ?_)
    obtain ⟨hm9, h⟩ := hq
    have h := h hm9
    have hm := hp_mono.tr hm hm9
    refine hp_aload_n E hl 0 rfl 0 rfl dX7_risk_27 (rfl : 27 + 1 = 28) ?_
    refine hp_getR E hR in_X7 (hp_mono.c hm hc0) rfl 45 (Nat.le_of_ble_eq_true rfl) rfl q1306 (fun _ h => h) dX7_risk_28 (rfl : 28 + 3 = 31) ?_
    refine hp_iload_n E hl 1 rfl 1 rfl dX7_risk_31 (rfl : 31 + 1 = 32) ?_
    obtain ⟨hc10, h⟩ := h
    obtain ⟨hi11, h⟩ := h
    refine hp_iald E hR hc10 hi11 dX7_risk_32 (rfl : 32 + 1 = 33) ?_
    refine hp_iconst E (-1 : Int32) (by decide) dX7_risk_33 (rfl : 33 + 1 = 34) ?_
    refine hp_icmp_eq E dX7_risk_34 (rfl : 34 + 3 = 37) (tgt := 45) (by decide) (fun hb => ?_) (fun hb => ?_)
    · have h := h.1 hb
      refine hp_aload_n E hl 0 rfl 0 rfl dX7_risk_45 (rfl : 45 + 1 = 46) ?_
      refine hp_iload_n E hl 1 rfl 1 rfl dX7_risk_46 (rfl : 46 + 1 = 47) ?_
      refine hp_fl (hp_rV E hR hl (m_X7_riskOf G _ _ _ _ (hp_mono.c hm hc0) h) (hp_mono.c hm hc0) (ci := 6) rfl rfl q1694 q1696 qs69 q82 q1697 nf_X7_riskOf ⟨Nat.le_of_ble_eq_true rfl, Nat.le_of_ble_eq_true rfl⟩ (rest := []) rfl (Nat.le_of_ble_eq_true rfl) dX7_risk_47 ⟨Nat.le_of_ble_eq_true rfl, Nat.le_of_ble_eq_true rfl⟩) hR (rfl : 47 + 3 = 50) (fun z12 Sx H locs hq hR => ?_)
      obtain ⟨hSx, h⟩ := hq
      rw [hSx] at hR
      exact b50 _ _ _ _ _ h (lv_sub hl [] rfl) hR hm
    · have h := h.2 hb
      refine hp_aload_n E hl 0 rfl 0 rfl dX7_risk_37 (rfl : 37 + 1 = 38) ?_
      refine hp_iconst E (2 : Int32) (by decide) dX7_risk_38 (rfl : 38 + 1 = 39) ?_
      refine hp_fl (hp_rV E hR hl (m_X7_fails G _ _ _ _ (hp_mono.c hm hc0) h) (hp_mono.c hm hc0) (ci := 6) rfl rfl q1702 q1704 qs70 q82 q1705 nf_X7_fails ⟨Nat.le_of_ble_eq_true rfl, Nat.le_of_ble_eq_true rfl⟩ (rest := []) rfl (Nat.le_of_ble_eq_true rfl) dX7_risk_39 ⟨Nat.le_of_ble_eq_true rfl, Nat.le_of_ble_eq_true rfl⟩) hR (rfl : 39 + 3 = 42) (fun z13 S14 H locs hq hR => ?_)
      obtain ⟨hm15, h⟩ := hq
      have h := h hm15
      have hm := hp_mono.tr hm hm15
      refine hp_goto E (tgt := 50) dX7_risk_42 (by decide) ?_
      exact b50 _ _ _ _ _ h (lv_sub hl [] rfl) hR hm
def wb_X7_living_34 (o : Nat) (a1 : Int32) (t0 : Int32) (S : hp_St) (Q : Int32 → Prop) : Prop := Q t0
def wb_X7_living_29 (o : Nat) (a1 : Int32) (S : hp_St) (Q : Int32 → Prop) : Prop := wb_X7_living_34 o a1 (-1 : Int32) S Q
def wp_X7_living (o : Nat) (a1 : Int32) (S : hp_St) (Q : Int32 → Prop) : Prop := (((a1 = (-1 : Int32)) → wb_X7_living_29 o a1 S Q) ∧ ((¬ (a1 = (-1 : Int32))) → (st_C S (st_R S o 45) = 50) ∧ (vp_in a1 (st_L S (st_R S o 45))) ∧ ((((st_I S (st_R S o 45) a1.toNatClampNeg) = (-1 : Int32)) → wp_X7_ageIn o a1 (st_I S o 3) S (fun z3 => (((z3 ≤ (99 : Int32)) → wb_X7_living_34 o a1 a1 S Q) ∧ ((¬ (z3 ≤ (99 : Int32))) → wb_X7_living_29 o a1 S Q)))) ∧ ((¬ ((st_I S (st_R S o 45) a1.toNatClampNeg) = (-1 : Int32))) → wb_X7_living_29 o a1 S Q))))
theorem nf_X7_living : hp_nf yX7_living 1 = true := by decide +kernel
set_option maxHeartbeats 4000000 in
theorem m_X7_living {l : Launch} {B : Nat} {D : va_G} {s0 : State} {b0 : Nat} (G : hp_G l B D s0 b0) (o : Nat) (a1 : Int32) (Si : hp_St) (Q : Int32 → Prop) (hc0 : st_C Si o = 7) (h : wp_X7_living o a1 Si Q) : hp_M l B D s0 yX7_living cX7_living 2 (some .int) 3 192 0 0 [hp_v B o, .int a1] Si (hp_Qi B D s0 (fun r S' => S' = Si ∧ Q r)) := by
  refine hp_start G (by decide +kernel) rfl rfl (lv := [(0, hp_v B o), (1, .int a1)]) (by simp [lg_sl, hp_vc, hp_ci, hp_cj]) (by simp [lv_args, hp_vc, hp_ci, hp_cj]) ?_
  intro p e s m args below meth c E ls hl hR
  generalize hH : s.heap = H at hR ⊢
  generalize hLo : ([] : List Loc) = locs at hR ⊢
  have b34 : ∀ (t0 : Int32) (H : Heap) (locs : List Loc) (ls : Array Slot), wb_X7_living_34 o a1 t0 Si Q → lv_has ls 2 [] → hp_S B D s0 Si H locs → W p l e ({ frames := 3, cells := 0, slots := 0, locals := 192 } : Room) s m args below meth c H locs 0 0 (MQ below (hp_Qi B D s0 (fun r S' => S' = Si ∧ Q r)) args s 0 0 (fun q => B < q)) (F0 m 34 ls [.int t0]) := by
    intro t0 H locs ls h hl hR
    unfold wb_X7_living_34 at h
    exact hp_iret E hR ⟨rfl, h⟩ (Nat.le_of_ble_eq_true rfl) (Nat.le_of_ble_eq_true rfl) dX7_living_34
  have b29 : ∀ (H : Heap) (locs : List Loc) (ls : Array Slot), wb_X7_living_29 o a1 Si Q → lv_has ls 2 [] → hp_S B D s0 Si H locs → W p l e ({ frames := 3, cells := 0, slots := 0, locals := 192 } : Room) s m args below meth c H locs 0 0 (MQ below (hp_Qi B D s0 (fun r S' => S' = Si ∧ Q r)) args s 0 0 (fun q => B < q)) (F0 m 29 ls []) := by
    intro  H locs ls h hl hR
    unfold wb_X7_living_29 at h
    refine hp_iconst E (-1 : Int32) (by decide) dX7_living_29 (rfl : 29 + 1 = 30) ?_
    refine hp_goto E (tgt := 34) dX7_living_30 (by decide) ?_
    exact b34 _ _ _ _ h hl hR
  unfold wp_X7_living at h
  refine hp_iload_n E hl 1 rfl 1 rfl dX7_living_0 (rfl : 0 + 1 = 1) ?_
  refine hp_iconst E (-1 : Int32) (by decide) dX7_living_1 (rfl : 1 + 1 = 2) ?_
  refine hp_icmp_eq E dX7_living_2 (rfl : 2 + 3 = 5) (tgt := 29) (by decide) (fun hb => ?_) (fun hb => ?_)
  · have h := h.1 hb
    exact b29 _ _ _ h (lv_sub hl [] rfl) hR
  · have h := h.2 hb
    refine hp_aload_n E hl 0 rfl 0 rfl dX7_living_5 (rfl : 5 + 1 = 6) ?_
    refine hp_getR E hR in_X7 hc0 rfl 45 (Nat.le_of_ble_eq_true rfl) rfl q1306 (fun _ h => h) dX7_living_6 (rfl : 6 + 3 = 9) ?_
    refine hp_iload_n E hl 1 rfl 1 rfl dX7_living_9 (rfl : 9 + 1 = 10) ?_
    obtain ⟨hc1, h⟩ := h
    obtain ⟨hi2, h⟩ := h
    refine hp_iald E hR hc1 hi2 dX7_living_10 (rfl : 10 + 1 = 11) ?_
    refine hp_iconst E (-1 : Int32) (by decide) dX7_living_11 (rfl : 11 + 1 = 12) ?_
    refine hp_icmp_ne E dX7_living_12 (rfl : 12 + 3 = 15) (tgt := 29) (by decide) (fun hb => ?_) (fun hb => ?_)
    · have h := h.1 hb
      refine hp_aload_n E hl 0 rfl 0 rfl dX7_living_15 (rfl : 15 + 1 = 16) ?_
      refine hp_iload_n E hl 1 rfl 1 rfl dX7_living_16 (rfl : 16 + 1 = 17) ?_
      refine hp_aload_n E hl 0 rfl 0 rfl dX7_living_17 (rfl : 17 + 1 = 18) ?_
      refine hp_getI E hR in_X7 hc0 rfl 3 (Nat.le_of_ble_eq_true rfl) rfl q1264 (fun _ h => h) dX7_living_18 (rfl : 18 + 3 = 21) ?_
      refine hp_fi (hp_rV E hR hl (m_X7_ageIn G _ _ _ _ _ hc0 h) hc0 (ci := 6) rfl rfl q1527 q1529 qs47 q82 q1530 nf_X7_ageIn ⟨Nat.le_of_ble_eq_true rfl, Nat.le_of_ble_eq_true rfl⟩ (rest := []) rfl (Nat.le_of_ble_eq_true rfl) dX7_living_21 ⟨Nat.le_of_ble_eq_true rfl, Nat.le_of_ble_eq_true rfl⟩) hR (rfl : 21 + 3 = 24) (fun z3 Sx H locs hq hR => ?_)
      obtain ⟨hSx, h⟩ := hq
      rw [hSx] at hR
      refine hp_bipush E (99 : Int32) (by decide) dX7_living_24 (rfl : 24 + 2 = 26) ?_
      refine hp_icmp_le E dX7_living_26 (rfl : 26 + 3 = 29) (tgt := 33) (by decide) (fun hb => ?_) (fun hb => ?_)
      · have h := h.1 hb
        refine hp_iload_n E hl 1 rfl 1 rfl dX7_living_33 (rfl : 33 + 1 = 34) ?_
        exact b34 _ _ _ _ h (lv_sub hl [] rfl) hR
      · have h := h.2 hb
        exact b29 _ _ _ h (lv_sub hl [] rfl) hR
    · have h := h.2 hb
      exact b29 _ _ _ h (lv_sub hl [] rfl) hR
def wb_X7_converts_123 (o : Nat) (a1 : Int32) (t0 : Int32) (S : hp_St) (Q : Int32 → hp_St → Prop) : Prop := Q t0 S
def wp_X7_converts (o : Nat) (a1 : Int32) (S : hp_St) (Q : Int32 → hp_St → Prop) : Prop := (∀ S1, S1 = st_pI S o 2 (0 : Int32) → wp_X7_isRent o a1 S1 (fun z4 => (((z4 = 0) → Q (-1 : Int32) S1) ∧ ((¬ (z4 = 0)) → wp_X7_know o (st_I S1 o 3) S1 (fun S5 => hp_mono S1 S5 → (st_C S5 (st_R S5 o 10) = 50) ∧ (vp_in a1 (st_L S5 (st_R S5 o 10))) ∧ wp_X7_living o (st_I S5 (st_R S5 o 10) a1.toNatClampNeg) S5 (fun z9 => (st_C S5 (st_R S5 o 11) = 50) ∧ (vp_in a1 (st_L S5 (st_R S5 o 11))) ∧ wp_X7_living o (st_I S5 (st_R S5 o 11) a1.toNatClampNeg) S5 (fun z12 => (st_C S5 (st_R S5 o 12) = 50) ∧ (vp_in a1 (st_L S5 (st_R S5 o 12))) ∧ wp_X7_lay o (0 : Int32) S5 (fun S15 => hp_mono S5 S15 → (st_C S15 (st_R S15 o 10) = 50) ∧ (vp_in a1 (st_L S15 (st_R S15 o 10))) ∧ (st_C S15 (st_R S15 o 11) = 50) ∧ (vp_in a1 (st_L S15 (st_R S15 o 11))) ∧ wp_X7_lumpOf o (st_I S15 (st_R S15 o 10) a1.toNatClampNeg) (st_I S15 (st_R S15 o 11) a1.toNatClampNeg) S15 (fun z21 => wp_X7_worthOn o z9 z12 S15 (fun z22 => wp_X7_lay o (1 : Int32) S15 (fun S23 => hp_mono S15 S23 → wp_X7_worthOn o z9 z12 S23 (fun z25 => ((((lg_cmp (((z21.toInt64 * ((2 : Int64) * ((st_I S5 (st_R S5 o 12) a1.toNatClampNeg).toInt64))) * z22.toInt64) / (100 : Int64)) (((2 : Int64) * ((st_I S5 (st_R S5 o 12) a1.toNatClampNeg).toInt64)) * z25.toInt64)) ≤ 0) → wb_X7_converts_123 o a1 (0 : Int32) S23 Q) ∧ ((¬ ((lg_cmp (((z21.toInt64 * ((2 : Int64) * ((st_I S5 (st_R S5 o 12) a1.toNatClampNeg).toInt64))) * z22.toInt64) / (100 : Int64)) (((2 : Int64) * ((st_I S5 (st_R S5 o 12) a1.toNatClampNeg).toInt64)) * z25.toInt64)) ≤ 0)) → wb_X7_converts_123 o a1 (1 : Int32) S23 Q))))))))))))))
theorem nf_X7_converts : hp_nf yX7_converts 1 = true := by decide +kernel
set_option maxHeartbeats 4000000 in
theorem m_X7_converts {l : Launch} {B : Nat} {D : va_G} {s0 : State} {b0 : Nat} (G : hp_G l B D s0 b0) (o : Nat) (a1 : Int32) (Si : hp_St) (Q : Int32 → hp_St → Prop) (hc0 : st_C Si o = 7) (h : wp_X7_converts o a1 Si Q) : hp_M l B D s0 yX7_converts cX7_converts 8 (some .int) 6 384 0 0 [hp_v B o, .int a1] Si (hp_Qi B D s0 (fun r S' => hp_mono Si S' ∧ Q r S')) := by
  refine hp_start G (by decide +kernel) rfl rfl (lv := [(0, hp_v B o), (1, .int a1)]) (by simp [lg_sl, hp_vc, hp_ci, hp_cj]) (by simp [lv_args, hp_vc, hp_ci, hp_cj]) ?_
  intro p e s m args below meth c E ls hl hR
  have hm : hp_mono Si Si := hp_mono.rf
  generalize hH : s.heap = H at hR ⊢
  generalize hLo : ([] : List Loc) = locs at hR ⊢
  have b123 : ∀ (t0 : Int32) (S : hp_St) (H : Heap) (locs : List Loc) (ls : Array Slot), wb_X7_converts_123 o a1 t0 S Q → lv_has ls 8 [] → hp_S B D s0 S H locs → hp_mono Si S → W p l e ({ frames := 6, cells := 0, slots := 0, locals := 384 } : Room) s m args below meth c H locs 0 0 (MQ below (hp_Qi B D s0 (fun r S' => hp_mono Si S' ∧ Q r S')) args s 0 0 (fun q => B < q)) (F0 m 123 ls [.int t0]) := by
    intro t0 S H locs ls h hl hR hm
    unfold wb_X7_converts_123 at h
    exact hp_iret E hR ⟨hm, h⟩ (Nat.le_of_ble_eq_true rfl) (Nat.le_of_ble_eq_true rfl) dX7_converts_123
  unfold wp_X7_converts at h
  refine hp_aload_n E hl 0 rfl 0 rfl dX7_converts_0 (rfl : 0 + 1 = 1) ?_
  refine hp_iconst E (0 : Int32) (by decide) dX7_converts_1 (rfl : 1 + 1 = 2) ?_
  refine hx_putI E hR in_X7 tyX7 tyX7_ok nmX7 hc0 rfl 2 (Nat.le_of_ble_eq_true rfl) rfl q1263 (fun _ h => h) (Or.inl rfl) (Or.inl rfl) dX7_converts_2 (rfl : 2 + 3 = 5) (fun S1 H locs e3 hm2 hR => ?_)
  have h := h S1 e3
  have hm := hp_mono.tr hm hm2
  refine hp_aload_n E hl 0 rfl 0 rfl dX7_converts_5 (rfl : 5 + 1 = 6) ?_
  refine hp_iload_n E hl 1 rfl 1 rfl dX7_converts_6 (rfl : 6 + 1 = 7) ?_
  refine hp_fi (hp_rV E hR hl (m_X7_isRent G _ _ _ _ (hp_mono.c hm hc0) h) (hp_mono.c hm hc0) (ci := 6) rfl rfl q1550 q1552 qs50 q82 q1553 nf_X7_isRent ⟨Nat.le_of_ble_eq_true rfl, Nat.le_of_ble_eq_true rfl⟩ (rest := []) rfl (Nat.le_of_ble_eq_true rfl) dX7_converts_7 ⟨Nat.le_of_ble_eq_true rfl, Nat.le_of_ble_eq_true rfl⟩) hR (rfl : 7 + 3 = 10) (fun z4 Sx H locs hq hR => ?_)
  obtain ⟨hSx, h⟩ := hq
  rw [hSx] at hR
  refine hp_if_ne E dX7_converts_10 (rfl : 10 + 3 = 13) (tgt := 15) (by decide) (fun hb => ?_) (fun hb => ?_)
  · have h := h.1 hb
    refine hp_iconst E (-1 : Int32) (by decide) dX7_converts_13 (rfl : 13 + 1 = 14) ?_
    exact hp_iret E hR ⟨hm, h⟩ (Nat.le_of_ble_eq_true rfl) (Nat.le_of_ble_eq_true rfl) dX7_converts_14
  · have h := h.2 hb
    refine hp_aload_n E hl 0 rfl 0 rfl dX7_converts_15 (rfl : 15 + 1 = 16) ?_
    refine hp_aload_n E hl 0 rfl 0 rfl dX7_converts_16 (rfl : 16 + 1 = 17) ?_
    refine hp_getI E hR in_X7 (hp_mono.c hm hc0) rfl 3 (Nat.le_of_ble_eq_true rfl) rfl q1264 (fun _ h => h) dX7_converts_17 (rfl : 17 + 3 = 20) ?_
    refine hp_fv (hp_rV E hR hl (m_X7_know G _ _ _ _ (hp_mono.c hm hc0) h) (hp_mono.c hm hc0) (ci := 6) rfl rfl q1581 q1583 qs53 q82 q1584 nf_X7_know ⟨Nat.le_of_ble_eq_true rfl, Nat.le_of_ble_eq_true rfl⟩ (rest := []) rfl (Nat.le_of_ble_eq_true rfl) dX7_converts_20 ⟨Nat.le_of_ble_eq_true rfl, Nat.le_of_ble_eq_true rfl⟩) hR (rfl : 20 + 3 = 23) (fun S5 H locs hq hR => ?_)
    obtain ⟨hm6, h⟩ := hq
    have h := h hm6
    have hm := hp_mono.tr hm hm6
    refine hp_aload_n E hl 0 rfl 0 rfl dX7_converts_23 (rfl : 23 + 1 = 24) ?_
    refine hp_aload_n E hl 0 rfl 0 rfl dX7_converts_24 (rfl : 24 + 1 = 25) ?_
    refine hp_getR E hR in_X7 (hp_mono.c hm hc0) rfl 10 (Nat.le_of_ble_eq_true rfl) rfl q1271 (fun _ h => h) dX7_converts_25 (rfl : 25 + 3 = 28) ?_
    refine hp_iload_n E hl 1 rfl 1 rfl dX7_converts_28 (rfl : 28 + 1 = 29) ?_
    obtain ⟨hc7, h⟩ := h
    obtain ⟨hi8, h⟩ := h
    refine hp_iald E hR hc7 hi8 dX7_converts_29 (rfl : 29 + 1 = 30) ?_
    refine hp_fi (hp_rV E hR hl (m_X7_living G _ _ _ _ (hp_mono.c hm hc0) h) (hp_mono.c hm hc0) (ci := 6) rfl rfl q1710 q1712 qs71 q82 q1713 nf_X7_living ⟨Nat.le_of_ble_eq_true rfl, Nat.le_of_ble_eq_true rfl⟩ (rest := []) rfl (Nat.le_of_ble_eq_true rfl) dX7_converts_30 ⟨Nat.le_of_ble_eq_true rfl, Nat.le_of_ble_eq_true rfl⟩) hR (rfl : 30 + 3 = 33) (fun z9 Sx H locs hq hR => ?_)
    obtain ⟨hSx, h⟩ := hq
    rw [hSx] at hR
    refine hp_istore_n E hl 2 rfl (lv' := [(0, hp_v B o), (1, .int a1)]) dX7_converts_33 (rfl : 33 + 1 = 34) (by decide) rfl (fun ls hl => ?_)
    refine hp_aload_n E hl 0 rfl 1 rfl dX7_converts_34 (rfl : 34 + 1 = 35) ?_
    refine hp_aload_n E hl 0 rfl 1 rfl dX7_converts_35 (rfl : 35 + 1 = 36) ?_
    refine hp_getR E hR in_X7 (hp_mono.c hm hc0) rfl 11 (Nat.le_of_ble_eq_true rfl) rfl q1272 (fun _ h => h) dX7_converts_36 (rfl : 36 + 3 = 39) ?_
    refine hp_iload_n E hl 1 rfl 2 rfl dX7_converts_39 (rfl : 39 + 1 = 40) ?_
    obtain ⟨hc10, h⟩ := h
    obtain ⟨hi11, h⟩ := h
    refine hp_iald E hR hc10 hi11 dX7_converts_40 (rfl : 40 + 1 = 41) ?_
    refine hp_fi (hp_rV E hR hl (m_X7_living G _ _ _ _ (hp_mono.c hm hc0) h) (hp_mono.c hm hc0) (ci := 6) rfl rfl q1710 q1712 qs71 q82 q1713 nf_X7_living ⟨Nat.le_of_ble_eq_true rfl, Nat.le_of_ble_eq_true rfl⟩ (rest := []) rfl (Nat.le_of_ble_eq_true rfl) dX7_converts_41 ⟨Nat.le_of_ble_eq_true rfl, Nat.le_of_ble_eq_true rfl⟩) hR (rfl : 41 + 3 = 44) (fun z12 Sx H locs hq hR => ?_)
    obtain ⟨hSx, h⟩ := hq
    rw [hSx] at hR
    refine hp_istore_n E hl 3 rfl (lv' := [(2, .int z9), (0, hp_v B o), (1, .int a1)]) dX7_converts_44 (rfl : 44 + 1 = 45) (by decide) rfl (fun ls hl => ?_)
    refine hp_ldc2 E q1714 dX7_converts_45 (rfl : 45 + 3 = 48) ?_
    refine hp_aload_n E hl 0 rfl 2 rfl dX7_converts_48 (rfl : 48 + 1 = 49) ?_
    refine hp_getR E hR in_X7 (hp_mono.c hm hc0) rfl 12 (Nat.le_of_ble_eq_true rfl) rfl q1273 (fun _ h => h) dX7_converts_49 (rfl : 49 + 3 = 52) ?_
    refine hp_iload_n E hl 1 rfl 3 rfl dX7_converts_52 (rfl : 52 + 1 = 53) ?_
    obtain ⟨hc13, h⟩ := h
    obtain ⟨hi14, h⟩ := h
    refine hp_iald E hR hc13 hi14 dX7_converts_53 (rfl : 53 + 1 = 54) ?_
    refine hp_i2l E dX7_converts_54 (rfl : 54 + 1 = 55) ?_
    refine hp_lmul E dX7_converts_55 (rfl : 55 + 1 = 56) ?_
    refine hp_lstore E hl 4 (lv' := [(3, .int z12), (2, .int z9), (0, hp_v B o), (1, .int a1)]) dX7_converts_56 (rfl : 56 + 2 = 58) (by decide) rfl (fun ls hl => ?_)
    refine hp_aload_n E hl 0 rfl 3 rfl dX7_converts_58 (rfl : 58 + 1 = 59) ?_
    refine hp_iconst E (0 : Int32) (by decide) dX7_converts_59 (rfl : 59 + 1 = 60) ?_
    refine hp_fv (hp_rV E hR hl (m_X7_lay G _ _ _ _ (hp_mono.c hm hc0) h) (hp_mono.c hm hc0) (ci := 6) rfl rfl q1653 q1655 qs63 q82 q1656 nf_X7_lay ⟨Nat.le_of_ble_eq_true rfl, Nat.le_of_ble_eq_true rfl⟩ (rest := []) rfl (Nat.le_of_ble_eq_true rfl) dX7_converts_60 ⟨Nat.le_of_ble_eq_true rfl, Nat.le_of_ble_eq_true rfl⟩) hR (rfl : 60 + 3 = 63) (fun S15 H locs hq hR => ?_)
    obtain ⟨hm16, h⟩ := hq
    have h := h hm16
    have hm := hp_mono.tr hm hm16
    refine hp_aload_n E hl 0 rfl 3 rfl dX7_converts_63 (rfl : 63 + 1 = 64) ?_
    refine hp_aload_n E hl 0 rfl 3 rfl dX7_converts_64 (rfl : 64 + 1 = 65) ?_
    refine hp_getR E hR in_X7 (hp_mono.c hm hc0) rfl 10 (Nat.le_of_ble_eq_true rfl) rfl q1271 (fun _ h => h) dX7_converts_65 (rfl : 65 + 3 = 68) ?_
    refine hp_iload_n E hl 1 rfl 4 rfl dX7_converts_68 (rfl : 68 + 1 = 69) ?_
    obtain ⟨hc17, h⟩ := h
    obtain ⟨hi18, h⟩ := h
    refine hp_iald E hR hc17 hi18 dX7_converts_69 (rfl : 69 + 1 = 70) ?_
    refine hp_aload_n E hl 0 rfl 3 rfl dX7_converts_70 (rfl : 70 + 1 = 71) ?_
    refine hp_getR E hR in_X7 (hp_mono.c hm hc0) rfl 11 (Nat.le_of_ble_eq_true rfl) rfl q1272 (fun _ h => h) dX7_converts_71 (rfl : 71 + 3 = 74) ?_
    refine hp_iload_n E hl 1 rfl 4 rfl dX7_converts_74 (rfl : 74 + 1 = 75) ?_
    obtain ⟨hc19, h⟩ := h
    obtain ⟨hi20, h⟩ := h
    refine hp_iald E hR hc19 hi20 dX7_converts_75 (rfl : 75 + 1 = 76) ?_
    refine hp_fi (hp_rV E hR hl (m_X7_lumpOf G _ _ _ _ _ (hp_mono.c hm hc0) h) (hp_mono.c hm hc0) (ci := 6) rfl rfl q1535 q1537 qs49 q82 q1538 nf_X7_lumpOf ⟨Nat.le_of_ble_eq_true rfl, Nat.le_of_ble_eq_true rfl⟩ (rest := []) rfl (Nat.le_of_ble_eq_true rfl) dX7_converts_76 ⟨Nat.le_of_ble_eq_true rfl, Nat.le_of_ble_eq_true rfl⟩) hR (rfl : 76 + 3 = 79) (fun z21 Sx H locs hq hR => ?_)
    obtain ⟨hSx, h⟩ := hq
    rw [hSx] at hR
    refine hp_i2l E dX7_converts_79 (rfl : 79 + 1 = 80) ?_
    refine hp_lload E hl 0 rfl dX7_converts_80 (rfl : 80 + 2 = 82) ?_
    refine hp_lmul E dX7_converts_82 (rfl : 82 + 1 = 83) ?_
    refine hp_aload_n E hl 0 rfl 3 rfl dX7_converts_83 (rfl : 83 + 1 = 84) ?_
    refine hp_iload_n E hl 2 rfl 2 rfl dX7_converts_84 (rfl : 84 + 1 = 85) ?_
    refine hp_iload_n E hl 3 rfl 1 rfl dX7_converts_85 (rfl : 85 + 1 = 86) ?_
    refine hp_fi (hp_rV E hR hl (m_X7_worthOn G _ _ _ _ _ (hp_mono.c hm hc0) h) (hp_mono.c hm hc0) (ci := 6) rfl rfl q1657 q1659 qs64 q82 q1660 nf_X7_worthOn ⟨Nat.le_of_ble_eq_true rfl, Nat.le_of_ble_eq_true rfl⟩ (rest := [.long (z21.toInt64 * ((2 : Int64) * ((st_I S5 (st_R S5 o 12) a1.toNatClampNeg).toInt64)))]) rfl (Nat.le_of_ble_eq_true rfl) dX7_converts_86 ⟨Nat.le_of_ble_eq_true rfl, Nat.le_of_ble_eq_true rfl⟩) hR (rfl : 86 + 3 = 89) (fun z22 Sx H locs hq hR => ?_)
    obtain ⟨hSx, h⟩ := hq
    rw [hSx] at hR
    refine hp_i2l E dX7_converts_89 (rfl : 89 + 1 = 90) ?_
    refine hp_lmul E dX7_converts_90 (rfl : 90 + 1 = 91) ?_
    refine hp_ldc2 E q1715 dX7_converts_91 (rfl : 91 + 3 = 94) ?_
    refine hp_ldiv E (by decide) dX7_converts_94 (rfl : 94 + 1 = 95) ?_
    refine hp_lstore E hl 6 (lv' := [(4, .long ((2 : Int64) * ((st_I S5 (st_R S5 o 12) a1.toNatClampNeg).toInt64))), (3, .int z12), (2, .int z9), (0, hp_v B o), (1, .int a1)]) dX7_converts_95 (rfl : 95 + 2 = 97) (by decide) rfl (fun ls hl => ?_)
    refine hp_aload_n E hl 0 rfl 4 rfl dX7_converts_97 (rfl : 97 + 1 = 98) ?_
    refine hp_iconst E (1 : Int32) (by decide) dX7_converts_98 (rfl : 98 + 1 = 99) ?_
    refine hp_fv (hp_rV E hR hl (m_X7_lay G _ _ _ _ (hp_mono.c hm hc0) h) (hp_mono.c hm hc0) (ci := 6) rfl rfl q1653 q1655 qs63 q82 q1656 nf_X7_lay ⟨Nat.le_of_ble_eq_true rfl, Nat.le_of_ble_eq_true rfl⟩ (rest := []) rfl (Nat.le_of_ble_eq_true rfl) dX7_converts_99 ⟨Nat.le_of_ble_eq_true rfl, Nat.le_of_ble_eq_true rfl⟩) hR (rfl : 99 + 3 = 102) (fun S23 H locs hq hR => ?_)
    obtain ⟨hm24, h⟩ := hq
    have h := h hm24
    have hm := hp_mono.tr hm hm24
    refine hp_lload E hl 0 rfl dX7_converts_102 (rfl : 102 + 2 = 104) ?_
    refine hp_lload E hl 1 rfl dX7_converts_104 (rfl : 104 + 2 = 106) ?_
    refine hp_aload_n E hl 0 rfl 4 rfl dX7_converts_106 (rfl : 106 + 1 = 107) ?_
    refine hp_iload_n E hl 2 rfl 3 rfl dX7_converts_107 (rfl : 107 + 1 = 108) ?_
    refine hp_iload_n E hl 3 rfl 2 rfl dX7_converts_108 (rfl : 108 + 1 = 109) ?_
    refine hp_fi (hp_rV E hR hl (m_X7_worthOn G _ _ _ _ _ (hp_mono.c hm hc0) h) (hp_mono.c hm hc0) (ci := 6) rfl rfl q1657 q1659 qs64 q82 q1660 nf_X7_worthOn ⟨Nat.le_of_ble_eq_true rfl, Nat.le_of_ble_eq_true rfl⟩ (rest := [.long ((2 : Int64) * ((st_I S5 (st_R S5 o 12) a1.toNatClampNeg).toInt64)), .long (((z21.toInt64 * ((2 : Int64) * ((st_I S5 (st_R S5 o 12) a1.toNatClampNeg).toInt64))) * z22.toInt64) / (100 : Int64))]) rfl (Nat.le_of_ble_eq_true rfl) dX7_converts_109 ⟨Nat.le_of_ble_eq_true rfl, Nat.le_of_ble_eq_true rfl⟩) hR (rfl : 109 + 3 = 112) (fun z25 Sx H locs hq hR => ?_)
    obtain ⟨hSx, h⟩ := hq
    rw [hSx] at hR
    refine hp_i2l E dX7_converts_112 (rfl : 112 + 1 = 113) ?_
    refine hp_lmul E dX7_converts_113 (rfl : 113 + 1 = 114) ?_
    refine hp_lcmp E dX7_converts_114 (rfl : 114 + 1 = 115) ?_
    refine hp_if_le E dX7_converts_115 (rfl : 115 + 3 = 118) (tgt := 122) (by decide) (fun hb => ?_) (fun hb => ?_)
    · have h := h.1 hb
      refine hp_iconst E (0 : Int32) (by decide) dX7_converts_122 (rfl : 122 + 1 = 123) ?_
      exact b123 _ _ _ _ _ h (lv_sub hl [] rfl) hR hm
    · have h := h.2 hb
      refine hp_iconst E (1 : Int32) (by decide) dX7_converts_118 (rfl : 118 + 1 = 119) ?_
      refine hp_goto E (tgt := 123) dX7_converts_119 (by decide) ?_
      exact b123 _ _ _ _ _ h (lv_sub hl [] rfl) hR hm
def wb_X7_count_76 (o : Nat) (a1 : Int32) (S : hp_St) (Q : Int32 → hp_St → Prop) : Prop := (st_C S (st_R S o 40) = 50) ∧ (vp_in (a1 - (4 : Int32)) (st_L S (st_R S o 40))) ∧ Q (st_I S (st_R S o 40) (a1 - (4 : Int32)).toNatClampNeg) S
def wp_X7_count (o : Nat) (a1 : Int32) (S : hp_St) (Q : Int32 → hp_St → Prop) : Prop := (∀ S1, S1 = st_pI S o 2 (0 : Int32) → ((a1 = (0 : Int32) → Q (st_I S1 o 3) S1) ∧ (a1 = (1 : Int32) → Q (st_I S1 o 4) S1) ∧ (a1 = (2 : Int32) → Q (st_I S1 o 7) S1) ∧ (a1 = (3 : Int32) → Q (st_I S1 o 16) S1) ∧ (a1 = (4 : Int32) → wb_X7_count_76 o a1 S1 Q) ∧ (a1 = (5 : Int32) → wb_X7_count_76 o a1 S1 Q) ∧ (a1 = (6 : Int32) → wb_X7_count_76 o a1 S1 Q) ∧ (a1 = (7 : Int32) → wb_X7_count_76 o a1 S1 Q) ∧ (a1 = (8 : Int32) → Q (st_I S1 o 38) S1) ∧ ((¬ a1 = (0 : Int32) ∧ ¬ a1 = (1 : Int32) ∧ ¬ a1 = (2 : Int32) ∧ ¬ a1 = (3 : Int32) ∧ ¬ a1 = (4 : Int32) ∧ ¬ a1 = (5 : Int32) ∧ ¬ a1 = (6 : Int32) ∧ ¬ a1 = (7 : Int32) ∧ ¬ a1 = (8 : Int32)) → Q (-1 : Int32) S1)))
theorem nf_X7_count : hp_nf yX7_count 1 = true := by decide +kernel
set_option maxHeartbeats 4000000 in
theorem m_X7_count {l : Launch} {B : Nat} {D : va_G} {s0 : State} {b0 : Nat} (G : hp_G l B D s0 b0) (o : Nat) (a1 : Int32) (Si : hp_St) (Q : Int32 → hp_St → Prop) (hc0 : st_C Si o = 7) (h : wp_X7_count o a1 Si Q) : hp_M l B D s0 yX7_count cX7_count 2 (some .int) 2 128 0 0 [hp_v B o, .int a1] Si (hp_Qi B D s0 (fun r S' => hp_mono Si S' ∧ Q r S')) := by
  refine hp_start G (by decide +kernel) rfl rfl (lv := [(0, hp_v B o), (1, .int a1)]) (by simp [lg_sl, hp_vc, hp_ci, hp_cj]) (by simp [lv_args, hp_vc, hp_ci, hp_cj]) ?_
  intro p e s m args below meth c E ls hl hR
  have hm : hp_mono Si Si := hp_mono.rf
  generalize hH : s.heap = H at hR ⊢
  generalize hLo : ([] : List Loc) = locs at hR ⊢
  have b76 : ∀ (S : hp_St) (H : Heap) (locs : List Loc) (ls : Array Slot), wb_X7_count_76 o a1 S Q → lv_has ls 2 [(0, hp_v B o), (1, .int a1)] → hp_S B D s0 S H locs → hp_mono Si S → W p l e ({ frames := 2, cells := 0, slots := 0, locals := 128 } : Room) s m args below meth c H locs 0 0 (MQ below (hp_Qi B D s0 (fun r S' => hp_mono Si S' ∧ Q r S')) args s 0 0 (fun q => B < q)) (F0 m 76 ls []) := by
    intro S H locs ls h hl hR hm
    unfold wb_X7_count_76 at h
    refine hp_aload_n E hl 0 rfl 0 rfl dX7_count_76 (rfl : 76 + 1 = 77) ?_
    refine hp_getR E hR in_X7 (hp_mono.c hm hc0) rfl 40 (Nat.le_of_ble_eq_true rfl) rfl q1301 (fun _ h => h) dX7_count_77 (rfl : 77 + 3 = 80) ?_
    refine hp_iload_n E hl 1 rfl 1 rfl dX7_count_80 (rfl : 80 + 1 = 81) ?_
    refine hp_iconst E (4 : Int32) (by decide) dX7_count_81 (rfl : 81 + 1 = 82) ?_
    refine hp_isub E dX7_count_82 (rfl : 82 + 1 = 83) ?_
    obtain ⟨hc7601, h⟩ := h
    obtain ⟨hi7602, h⟩ := h
    refine hp_iald E hR hc7601 hi7602 dX7_count_83 (rfl : 83 + 1 = 84) ?_
    exact hp_iret E hR ⟨hm, h⟩ (Nat.le_of_ble_eq_true rfl) (Nat.le_of_ble_eq_true rfl) dX7_count_84
  unfold wp_X7_count at h
  refine hp_aload_n E hl 0 rfl 0 rfl dX7_count_0 (rfl : 0 + 1 = 1) ?_
  refine hp_iconst E (0 : Int32) (by decide) dX7_count_1 (rfl : 1 + 1 = 2) ?_
  refine hx_putI E hR in_X7 tyX7 tyX7_ok nmX7 hc0 rfl 2 (Nat.le_of_ble_eq_true rfl) rfl q1263 (fun _ h => h) (Or.inl rfl) (Or.inl rfl) dX7_count_2 (rfl : 2 + 3 = 5) (fun S1 H locs e3 hm2 hR => ?_)
  have h := h S1 e3
  have hm := hp_mono.tr hm hm2
  refine hp_iload_n E hl 1 rfl 1 rfl dX7_count_5 (rfl : 5 + 1 = 6) ?_
  refine hp_case (x := a1) (k := (0 : Int32)) (fun hb => ?_) (fun hn0 => ?_)
  · refine hp_tabIn E hb dX7_count_6 (off := 50) (tgt := 56) (by decide) (by decide) rfl (by decide) ?_
    have h := h.1 hb
    refine hp_aload_n E hl 0 rfl 0 rfl dX7_count_56 (rfl : 56 + 1 = 57) ?_
    refine hp_getI E hR in_X7 (hp_mono.c hm hc0) rfl 3 (Nat.le_of_ble_eq_true rfl) rfl q1264 (fun _ h => h) dX7_count_57 (rfl : 57 + 3 = 60) ?_
    exact hp_iret E hR ⟨hm, h⟩ (Nat.le_of_ble_eq_true rfl) (Nat.le_of_ble_eq_true rfl) dX7_count_60
  refine hp_case (x := a1) (k := (1 : Int32)) (fun hb => ?_) (fun hn1 => ?_)
  · refine hp_tabIn E hb dX7_count_6 (off := 55) (tgt := 61) (by decide) (by decide) rfl (by decide) ?_
    have h := h.2.1 hb
    refine hp_aload_n E hl 0 rfl 0 rfl dX7_count_61 (rfl : 61 + 1 = 62) ?_
    refine hp_getI E hR in_X7 (hp_mono.c hm hc0) rfl 4 (Nat.le_of_ble_eq_true rfl) rfl q1265 (fun _ h => h) dX7_count_62 (rfl : 62 + 3 = 65) ?_
    exact hp_iret E hR ⟨hm, h⟩ (Nat.le_of_ble_eq_true rfl) (Nat.le_of_ble_eq_true rfl) dX7_count_65
  refine hp_case (x := a1) (k := (2 : Int32)) (fun hb => ?_) (fun hn2 => ?_)
  · refine hp_tabIn E hb dX7_count_6 (off := 60) (tgt := 66) (by decide) (by decide) rfl (by decide) ?_
    have h := h.2.2.1 hb
    refine hp_aload_n E hl 0 rfl 0 rfl dX7_count_66 (rfl : 66 + 1 = 67) ?_
    refine hp_getI E hR in_X7 (hp_mono.c hm hc0) rfl 7 (Nat.le_of_ble_eq_true rfl) rfl q1268 (fun _ h => h) dX7_count_67 (rfl : 67 + 3 = 70) ?_
    exact hp_iret E hR ⟨hm, h⟩ (Nat.le_of_ble_eq_true rfl) (Nat.le_of_ble_eq_true rfl) dX7_count_70
  refine hp_case (x := a1) (k := (3 : Int32)) (fun hb => ?_) (fun hn3 => ?_)
  · refine hp_tabIn E hb dX7_count_6 (off := 65) (tgt := 71) (by decide) (by decide) rfl (by decide) ?_
    have h := h.2.2.2.1 hb
    refine hp_aload_n E hl 0 rfl 0 rfl dX7_count_71 (rfl : 71 + 1 = 72) ?_
    refine hp_getI E hR in_X7 (hp_mono.c hm hc0) rfl 16 (Nat.le_of_ble_eq_true rfl) rfl q1277 (fun _ h => h) dX7_count_72 (rfl : 72 + 3 = 75) ?_
    exact hp_iret E hR ⟨hm, h⟩ (Nat.le_of_ble_eq_true rfl) (Nat.le_of_ble_eq_true rfl) dX7_count_75
  refine hp_case (x := a1) (k := (4 : Int32)) (fun hb => ?_) (fun hn4 => ?_)
  · refine hp_tabIn E hb dX7_count_6 (off := 70) (tgt := 76) (by decide) (by decide) rfl (by decide) ?_
    have h := h.2.2.2.2.1 hb
    exact b76 _ _ _ _ h hl hR hm
  refine hp_case (x := a1) (k := (5 : Int32)) (fun hb => ?_) (fun hn5 => ?_)
  · refine hp_tabIn E hb dX7_count_6 (off := 70) (tgt := 76) (by decide) (by decide) rfl (by decide) ?_
    have h := h.2.2.2.2.2.1 hb
    exact b76 _ _ _ _ h hl hR hm
  refine hp_case (x := a1) (k := (6 : Int32)) (fun hb => ?_) (fun hn6 => ?_)
  · refine hp_tabIn E hb dX7_count_6 (off := 70) (tgt := 76) (by decide) (by decide) rfl (by decide) ?_
    have h := h.2.2.2.2.2.2.1 hb
    exact b76 _ _ _ _ h hl hR hm
  refine hp_case (x := a1) (k := (7 : Int32)) (fun hb => ?_) (fun hn7 => ?_)
  · refine hp_tabIn E hb dX7_count_6 (off := 70) (tgt := 76) (by decide) (by decide) rfl (by decide) ?_
    have h := h.2.2.2.2.2.2.2.1 hb
    exact b76 _ _ _ _ h hl hR hm
  refine hp_case (x := a1) (k := (8 : Int32)) (fun hb => ?_) (fun hn8 => ?_)
  · refine hp_tabIn E hb dX7_count_6 (off := 79) (tgt := 85) (by decide) (by decide) rfl (by decide) ?_
    have h := h.2.2.2.2.2.2.2.2.1 hb
    refine hp_aload_n E hl 0 rfl 0 rfl dX7_count_85 (rfl : 85 + 1 = 86) ?_
    refine hp_getI E hR in_X7 (hp_mono.c hm hc0) rfl 38 (Nat.le_of_ble_eq_true rfl) rfl q1299 (fun _ h => h) dX7_count_86 (rfl : 86 + 3 = 89) ?_
    exact hp_iret E hR ⟨hm, h⟩ (Nat.le_of_ble_eq_true rfl) (Nat.le_of_ble_eq_true rfl) dX7_count_89
  have hno : ¬ a1 = (0 : Int32) ∧ ¬ a1 = (1 : Int32) ∧ ¬ a1 = (2 : Int32) ∧ ¬ a1 = (3 : Int32) ∧ ¬ a1 = (4 : Int32) ∧ ¬ a1 = (5 : Int32) ∧ ¬ a1 = (6 : Int32) ∧ ¬ a1 = (7 : Int32) ∧ ¬ a1 = (8 : Int32) := ⟨hn0, hn1, hn2, hn3, hn4, hn5, hn6, hn7, hn8⟩
  have h := h.2.2.2.2.2.2.2.2.2 hno
  refine hp_tabOut E dX7_count_6 (tgt := 90) (hp_out9 hno) (by decide) ?_
  refine hp_iconst E (-1 : Int32) (by decide) dX7_count_90 (rfl : 90 + 1 = 91) ?_
  exact hp_iret E hR ⟨hm, h⟩ (Nat.le_of_ble_eq_true rfl) (Nat.le_of_ble_eq_true rfl) dX7_count_91
