--  (7, 1, 8)
set_option maxRecDepth 100000
def wp_X1_risk (o : Nat) (a1 : Int32) (S : hp_St) (Q : Int64 → hp_St → Prop) (X1 X2 : hp_St → Prop) : Prop := wp_X1_aLife o a1 S (fun z1 => (((z1 = 0) → (∀ z, st_Z S ≤ z → X1 (st_gr S z))) ∧ ((¬ (z1 = 0)) → (st_C S (st_R S o 13) = 4) ∧ wp_X4_know (st_R S o 13) (st_I S o 4) S (fun z3 S4 => hp_mono S S4 → (st_C S4 z3 = 4) ∧ (st_C S4 (st_R S4 z3 0) = 50) ∧ (vp_in a1 (st_L S4 (st_R S4 z3 0))) ∧ ((((st_I S4 (st_R S4 z3 0) a1.toNatClampNeg) = (-1 : Int32)) → wp_X1_riskOf o z1 S4 (fun z9 => Q z9 S4)) ∧ ((¬ ((st_I S4 (st_R S4 z3 0) a1.toNatClampNeg) = (-1 : Int32))) → (∀ z, st_Z S4 ≤ z → X2 (st_gr S4 z))))))))
theorem nf_X1_risk : hp_nf yX1_risk 1 = true := by decide +kernel
set_option maxHeartbeats 4000000 in
theorem m_X1_risk {l : Launch} {B : Nat} {D : va_G} {s0 : State} {b0 : Nat} (G : hp_G l B D s0 b0) (o : Nat) (a1 : Int32) (Si : hp_St) (Q : Int64 → hp_St → Prop) (X1 X2 : hp_St → Prop) (hc0 : st_C Si o = 1) (h : wp_X1_risk o a1 Si Q X1 X2) : hp_ME l B D s0 yX1_risk cX1_risk 3 (some .long) 7 448 1 8 [hp_v B o, .int a1] Si (hp_Ql B D s0 (fun r S' => hp_mono Si S' ∧ Q r S')) (fun S' => hp_mono Si S' ∧ X1 S') (fun S' => hp_mono Si S' ∧ X2 S') := by
  refine hp_startE G (by decide +kernel) rfl rfl (lv := [(0, hp_v B o), (1, .int a1)]) (by simp [lg_sl, hp_vc, hp_ci, hp_cj]) (by simp [lv_args, hp_vc, hp_ci, hp_cj]) ?_
  intro p e s m args below meth c E hex ls hl hR
  have hR0 := hR
  have hm : hp_mono Si Si := hp_mono.rf
  unfold wp_X1_risk at h
  refine hp_aload_n E hl 0 rfl 0 rfl dX1_risk_0 (rfl : 0 + 1 = 1) ?_
  refine hp_iload_n E hl 1 rfl 1 rfl dX1_risk_1 (rfl : 1 + 1 = 2) ?_
  refine hp_fa (hp_rV E hR hl (m_X1_aLife G _ _ _ _ hc0 h) hc0 (ci := 0) rfl rfl q723 q725 qs16 q73 q726 nf_X1_aLife ⟨Nat.le_of_ble_eq_true rfl, Nat.le_of_ble_eq_true rfl⟩ (rest := []) rfl (Nat.le_of_ble_eq_true rfl) dX1_risk_2 ⟨Nat.le_of_ble_eq_true rfl, Nat.le_of_ble_eq_true rfl⟩) hR (rfl : 2 + 3 = 5) (fun z1 Sx H locs hq hR => ?_)
  obtain ⟨hSx, h⟩ := hq
  rw [hSx] at hR
  refine hp_astore_n E hl 2 rfl (lv' := [(0, hp_v B o), (1, .int a1)]) dX1_risk_5 (rfl : 5 + 1 = 6) (by decide) rfl (fun ls hl => ?_)
  refine hp_aload_n E hl 2 rfl 0 rfl dX1_risk_6 (rfl : 6 + 1 = 7) ?_
  refine hp_ifnonnull E dX1_risk_7 (rfl : 7 + 3 = 10) (tgt := 18) (by decide) (fun hb => ?_) (fun hb => ?_)
  · have h := h.1 hb
    exact hp_thrN G E hl hR0 hR (by have h1 := hR0.1.1; have h2 := hR.1.1; have h3 := hm.1; omega) hex (cls := RJ14) (by decide +kernel) hp_tw14 q1211 q106 (fun z hz => Or.inl ⟨rfl, hp_mono.tr hm (hp_mono_gr hz), h z hz⟩) dX1_risk_10 dX1_risk_13 dX1_risk_14 dX1_risk_17 (Nat.le_of_ble_eq_true rfl) (Nat.le_of_ble_eq_true rfl) (Nat.le_of_ble_eq_true rfl) (Nat.le_of_ble_eq_true rfl) (Nat.le_of_ble_eq_true rfl) (Nat.le_of_ble_eq_true rfl)
  · have h := h.2 hb
    refine hp_aload_n E hl 0 rfl 1 rfl dX1_risk_18 (rfl : 18 + 1 = 19) ?_
    refine hp_getR E hR in_X1 hc0 rfl 13 (Nat.le_of_ble_eq_true rfl) rfl q336 (fun _ h => h) dX1_risk_19 (rfl : 19 + 3 = 22) ?_
    refine hp_aload_n E hl 0 rfl 1 rfl dX1_risk_22 (rfl : 22 + 1 = 23) ?_
    refine hp_getI E hR in_X1 hc0 rfl 4 (Nat.le_of_ble_eq_true rfl) rfl q320 (fun _ h => h) dX1_risk_23 (rfl : 23 + 3 = 26) ?_
    obtain ⟨hc2, h⟩ := h
    refine hp_fa (hp_rV E hR hl (m_X4_know G _ _ _ _ hc2 h) hc2 (ci := 3) rfl rfl q946 q947 q948 q79 q949 nf_X4_know ⟨Nat.le_of_ble_eq_true rfl, Nat.le_of_ble_eq_true rfl⟩ (rest := []) rfl (Nat.le_of_ble_eq_true rfl) dX1_risk_26 ⟨Nat.le_of_ble_eq_true rfl, Nat.le_of_ble_eq_true rfl⟩) hR (rfl : 26 + 3 = 29) (fun z3 S4 H locs hq hR => ?_)
    obtain ⟨hm5, h⟩ := hq
    have h := h hm5
    have hm := hp_mono.tr hm hm5
    obtain ⟨hc6, h⟩ := h
    refine hp_getRN E hR in_X4 hc6 rfl 0 (Nat.le_of_ble_eq_true rfl) rfl q231 (fun _ h => h) dX1_risk_29 (rfl : 29 + 3 = 32) ?_
    refine hp_iload_n E hl 1 rfl 2 rfl dX1_risk_32 (rfl : 32 + 1 = 33) ?_
    obtain ⟨hc7, h⟩ := h
    obtain ⟨hi8, h⟩ := h
    refine hp_iald E hR hc7 hi8 dX1_risk_33 (rfl : 33 + 1 = 34) ?_
    refine hp_iconst E (-1 : Int32) (by decide) dX1_risk_34 (rfl : 34 + 1 = 35) ?_
    refine hp_icmp_eq E dX1_risk_35 (rfl : 35 + 3 = 38) (tgt := 46) (by decide) (fun hb => ?_) (fun hb => ?_)
    · have h := h.1 hb
      refine hp_aload_n E hl 0 rfl 1 rfl dX1_risk_46 (rfl : 46 + 1 = 47) ?_
      refine hp_aload_n E hl 2 rfl 0 rfl dX1_risk_47 (rfl : 47 + 1 = 48) ?_
      refine hp_fl (hp_rV E hR hl (m_X1_riskOf G _ _ _ _ (hp_mono.c hm hc0) h) (hp_mono.c hm hc0) (ci := 0) rfl rfl q1141 q1143 qs29 q73 q1144 nf_X1_riskOf ⟨Nat.le_of_ble_eq_true rfl, Nat.le_of_ble_eq_true rfl⟩ (rest := []) rfl (Nat.le_of_ble_eq_true rfl) dX1_risk_48 ⟨Nat.le_of_ble_eq_true rfl, Nat.le_of_ble_eq_true rfl⟩) hR (rfl : 48 + 3 = 51) (fun z9 Sx H locs hq hR => ?_)
      obtain ⟨hSx, h⟩ := hq
      rw [hSx] at hR
      exact vx_ret (hp_lret E hR ⟨hm, h⟩ (Nat.le_of_ble_eq_true rfl) (Nat.le_of_ble_eq_true rfl) dX1_risk_51)
    · have h := h.2 hb
      exact hp_thrN G E hl hR0 hR (by have h1 := hR0.1.1; have h2 := hR.1.1; have h3 := hm.1; omega) hex (cls := RJ16) (by decide +kernel) hp_tw16 q1232 q108 (fun z hz => Or.inr ⟨rfl, hp_mono.tr hm (hp_mono_gr hz), h z hz⟩) dX1_risk_38 dX1_risk_41 dX1_risk_42 dX1_risk_45 (Nat.le_of_ble_eq_true rfl) (Nat.le_of_ble_eq_true rfl) (Nat.le_of_ble_eq_true rfl) (Nat.le_of_ble_eq_true rfl) (Nat.le_of_ble_eq_true rfl) (Nat.le_of_ble_eq_true rfl)
