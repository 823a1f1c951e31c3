set_option maxRecDepth 100000
def wp_X0_risk (a0 : Nat) (a1 : Int32) (a2 : Nat) (S : hp_St) (Q : Int32 → hp_St → Prop) : Prop := (st_C S a0 = 1) ∧ wp_X1_risk a0 a1 S (fun z S1 => hp_mono S S1 → (st_C S1 a2 = 53) ∧ (vp_in (0 : Int32) (st_L S1 a2)) ∧ (∀ S2, S2 = st_pJ S1 a2 (0 : Int32).toNatClampNeg z → Q (0 : Int32) S2)) (fun S1 => hp_mono S S1 → Q (1 : Int32) S1) (fun S1 => hp_mono S S1 → Q (2 : Int32) S1)
theorem nf_X0_risk : hp_nf yX0_risk 3 = true := by decide +kernel
theorem hp_n16 : hp_ni (.not (.castable RJ16 RJ14)) = true := by decide +kernel
set_option maxHeartbeats 4000000 in
theorem m_X0_risk {l : Launch} {B : Nat} {D : va_G} {s0 : State} {b0 : Nat} (G : hp_G l B D s0 b0) (a0 : Nat) (a1 : Int32) (a2 : Nat) (Si : hp_St) (Q : Int32 → hp_St → Prop) (h : wp_X0_risk a0 a1 a2 Si Q) : hp_MW l B D s0 yX0_risk cX0_risk 4 (some .int) [(0, 8, 11, 13), (0, 8, 14, 15)] 8 512 1 8 [hp_v B a0, .int a1, hp_v B a2] Si (hp_Qi B D s0 (fun r S' => hp_mono Si S' ∧ Q r S')) := by
  refine hp_startW G (by decide +kernel) rfl rfl (lv := [(0, hp_v B a0), (1, .int a1), (2, hp_v B a2)]) (by simp [lg_sl, hp_vc, hp_ci, hp_cj]) (by simp [lv_args, hp_vc, hp_ci, hp_cj]) ?_
  intro p e s m args below meth c E htab ls hl hR
  have hm : hp_mono Si Si := hp_mono.rf
  obtain ⟨hc0, h⟩ := h
  refine hp_aload_n E hl 2 rfl 2 rfl dX0_risk_0 (rfl : 0 + 1 = 1) ?_
  refine hp_iconst E (0 : Int32) (by decide) dX0_risk_1 (rfl : 1 + 1 = 2) ?_
  refine hp_aload_n E hl 0 rfl 0 rfl dX0_risk_2 (rfl : 2 + 1 = 3) ?_
  refine hp_iload_n E hl 1 rfl 1 rfl dX0_risk_3 (rfl : 3 + 1 = 4) ?_
  have hr := hp_rVE (p := p) (l := l) (e := e) (below := below) (cells := 0) (slots := 0) (R := { frames := 8, cells := 1, slots := 8, locals := 512 }) E hR hl (m_X1_risk G _ _ _ _ _ _ hc0 h) hc0 (ci := 0) rfl rfl q1207 q1208 q1209 q73 q1210 nf_X1_risk ⟨Nat.le_of_ble_eq_true rfl, Nat.le_of_ble_eq_true rfl⟩ (st0 := [.int a1, hp_v B a0, .int 0, hp_v B a2]) (rest := [.int 0, hp_v B a2]) rfl (Nat.le_of_ble_eq_true rfl) dX0_risk_4 ⟨Nat.le_of_ble_eq_true rfl, Nat.le_of_ble_eq_true rfl⟩
  intro T hT X
  rcases hr T hT X with ⟨v, st₀, t, T', L, h0, X', hL, e1, e2, ⟨r, S1, hv, hq, -, hlow, hH⟩, st⟩ | ⟨q, st₀, t, T', L, E', ce, h0', X', hL, e1, e2, ⟨S1, hW, hx⟩, hce, hcv, hcl, st⟩
  · cases hv
    have hR1 : hp_S B D s0 S1 T'.heap ([] ++ L) := ⟨by rw [e1]; exact hH, by rw [e1]; exact hlow, fun q hq => (List.mem_append.mp hq).elim (hR.2.2 q) (hL q)⟩
    obtain ⟨hm1, h⟩ := hq
    have h := h hm1
    have hk : W p l e ({ frames := 8, cells := 1, slots := 8, locals := 512 } : Room) s m args below meth c T'.heap ([] ++ L) (0 + (1 - 1)) (0 + (8 - 8)) (MQ below (hp_Qi B D s0 (fun r S' => hp_mono Si S' ∧ Q r S')) args s 1 8 (fun q => B < q)) (F0 m (4 + 3) ls (.long r :: [.int 0, hp_v B a2])) := by
      obtain ⟨hc2, h⟩ := h
      obtain ⟨hi2, h⟩ := h
      refine hx_last E hR1 hc2 hi2 dX0_risk_7 (rfl : 7 + 1 = 8) (fun S2 H locs e2 hm2 hR => ?_)
      have h := h S2 e2
      refine hp_goto E (tgt := 17) dX0_risk_8 (by decide) ?_
      refine hp_iconst E (0 : Int32) (by decide) dX0_risk_17 (rfl : 17 + 1 = 18) ?_
      exact hp_iret E hR ⟨hp_mono.tr hm1 hm2, h⟩ (Nat.le_of_ble_eq_true rfl) (Nat.le_of_ble_eq_true rfl) dX0_risk_18
    obtain ⟨t2, a1, b1⟩ := hk T' rfl X'
    exact ⟨t2, st t2 a1, b1⟩
  · have hR1 : hp_S B D s0 S1 T'.heap ([] ++ L) := ⟨by rw [e1]; exact hW.2.2, by rw [e1]; exact hW.2.1, fun q hq => (List.mem_append.mp hq).elim (hR.2.2 q) (hL q)⟩
    rcases hx with ⟨hE, hm1, h⟩ | ⟨hE, hm1, h⟩
    · subst hE
      have h := h hm1
      have hk : W p l e ({ frames := 8, cells := 1, slots := 8, locals := 512 } : Room) s m args below meth c T'.heap ([] ++ L) (0 + 1) (0 + 8) (MQ below (hp_Qi B D s0 (fun r S' => hp_mono Si S' ∧ Q r S')) args s 1 8 (fun q => B < q)) (F0 m 11 ls [.ref q]) := by
        refine lv_astore_n E.x E.b dX0_risk_11 rfl hl (by decide) rfl (fun ls hl => ?_)
        refine hp_iconst E (1 : Int32) (by decide) dX0_risk_12 (rfl : 12 + 1 = 13) ?_
        exact hp_iret E hR1 ⟨hm1, h⟩ (Nat.le_of_ble_eq_true rfl) (Nat.le_of_ble_eq_true rfl) dX0_risk_13
      have hvx := vx_catch (rest := [.int 0, hp_v B a2]) (pc := 4) E.o [] ⟨0, 8, 11, 13⟩ _ htab (fun z hz => by cases hz) (by decide) (by decide) (E.w q1172) (E.n q1213 rfl) (by rw [e1]; exact hce) hcv hcl hk
      obtain ⟨t2, a1, b1⟩ := hvx T' rfl X'
      exact ⟨t2, st.trans a1, b1⟩
    · subst hE
      have h := h hm1
      have hk : W p l e ({ frames := 8, cells := 1, slots := 8, locals := 512 } : Room) s m args below meth c T'.heap ([] ++ L) (0 + 1) (0 + 8) (MQ below (hp_Qi B D s0 (fun r S' => hp_mono Si S' ∧ Q r S')) args s 1 8 (fun q => B < q)) (F0 m 14 ls [.ref q]) := by
        refine lv_astore_n E.x E.b dX0_risk_14 rfl hl (by decide) rfl (fun ls hl => ?_)
        refine hp_iconst E (2 : Int32) (by decide) dX0_risk_15 (rfl : 15 + 1 = 16) ?_
        exact hp_iret E hR1 ⟨hm1, h⟩ (Nat.le_of_ble_eq_true rfl) (Nat.le_of_ble_eq_true rfl) dX0_risk_16
      have hnc : va_Nc RJ16 RJ14 s := va_Nc.moved E.W.alike (va_Nc.of (hp_ni_spec hp_n16 G.2.2.2.2.1))
      have hvx := vx_catch (rest := [.int 0, hp_v B a2]) (pc := 4) E.o [⟨0, 8, 11, 13⟩] ⟨0, 8, 14, 15⟩ [] htab (fun z hz => by rw [List.mem_singleton.mp hz]; exact Or.inr ⟨by decide, RJ14, E.w q1172, hnc⟩) (by decide) (by decide) (E.w q1206) (E.n q1234 rfl) (by rw [e1]; exact hce) hcv hcl hk
      obtain ⟨t2, a1, b1⟩ := hvx T' rfl X'
      exact ⟨t2, st.trans a1, b1⟩
