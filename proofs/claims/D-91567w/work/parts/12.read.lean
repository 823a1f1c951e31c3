set_option maxRecDepth 100000
def wb_X2_read_30 (o : Nat) (a1 : Int32) (S : hp_St) (K30 : hp_St → Prop) (Q : Nat → hp_St → Prop) (X : Nat → hp_St → Prop) : Prop := ((((st_I S o 3) = (3 : Int32)) → Q (st_R S o 6) S) ∧ ((¬ ((st_I S o 3) = (3 : Int32))) → (fun kq => wp_X2_line o S kq (fun n S' => hp_mono S S' → X n S')) (fun S3001 => hp_mono S S3001 → K30 S3001)))
def wl_X2_read_30 (o : Nat) (a1 : Int32) (S : hp_St) (Q : Nat → hp_St → Prop) (X : Nat → hp_St → Prop) : Prop := ∃ (I : hp_St → Prop) (μ : hp_St → Nat), I S ∧ μ S < 500 ∧ ∀ (S1 : hp_St), hp_mono S S1 → I S1 → wb_X2_read_30 o a1 S1 (fun S2 => I S2 ∧ μ S2 < μ S1) Q X
def wp_X2_read (o : Nat) (a1 : Int32) (S : hp_St) (Q : Nat → hp_St → Prop) (X : Nat → hp_St → Prop) : Prop := (∀ S1, S1 = st_pI S o 0 (0 : Int32) → (∀ S4, S4 = st_pI S1 o 1 a1 → (∀ S7, S7 = st_pI S4 o 5 (0 : Int32) → (∀ n13 S10, n13 = st_Z S7 → S10 = st_nA S7 3 0 → hp_fr S7 n13 → wp_X3_init n13 S10 (fun S17 => hp_mono S10 S17 → (∀ S19, S19 = st_pR S17 o 6 n13 → wp_X2_next o S19 (fun S22 => hp_mono S19 S22 → wl_X2_read_30 o a1 S22 Q X)))))))
theorem nf_X2_read : hp_nf yX2_read 1 = true := by decide +kernel
set_option maxHeartbeats 4000000 in
theorem m_X2_read {l : Launch} {B : Nat} {D : va_G} {s0 : State} {b0 : Nat} (G : hp_G l B D s0 b0) (o : Nat) (a1 : Int32) (Si : hp_St) (Q : Nat → hp_St → Prop) (X : Nat → hp_St → Prop) (hc0 : st_C Si o = 2) (h : wp_X2_read o a1 Si Q X) : hp_MX l B D s0 yX2_read cX2_read 2 (some (.object "LifeRents$Acts")) 12 768 1004 36081 [hp_v B o, .int a1] Si (hp_Qa B D s0 (fun r S' => hp_mono Si S' ∧ Q r S')) (fun n S' => hp_mono Si S' ∧ X n S') := by
  refine hp_startX G (by decide +kernel) rfl rfl (lv := [(0, hp_v B o), (1, .int a1)]) (by simp [lg_sl, hp_vc, hp_ci, hp_cj]) (by simp [lv_args, hp_vc, hp_ci, hp_cj]) ?_
  intro p e s m args below meth c E hex ls hl hR
  have hm : hp_mono Si Si := hp_mono.rf
  generalize hH : s.heap = H at hR ⊢
  generalize hLo : ([] : List Loc) = locs at hR ⊢
  have b30 : ∀ (S : hp_St) (H : Heap) (locs : List Loc) (ls : Array Slot), wl_X2_read_30 o a1 S Q X → lv_has ls 2 [(0, hp_v B o)] → hp_S B D s0 S H locs → hp_mono Si S → W p l e ({ frames := 12, cells := 1004, slots := 36081, locals := 768 } : Room) s m args below meth c H locs 3 73 (vx_MQ below (hp_Qa B D s0 (fun r S' => hp_mono Si S' ∧ Q r S')) (hp_XC B D s0 (fun n S' => hp_mono Si S' ∧ X n S')) args s 1004 36081 (fun q => B < q)) (F0 m 30 ls []) := by
    intro S H locs ls h hl hR hm
    obtain ⟨I30, μ30, hI, hμ, hst⟩ := h
    obtain ⟨Sa30, eSa30⟩ : ∃ x, x = S := ⟨_, rfl⟩
    subst eSa30
    have key30 : ∀ (N : Nat) (Su30 : hp_St) (H : Heap) (locs : List Loc) (ls : Array Slot), N ≤ 500 → μ30 Su30 < N → I30 Su30 → lv_has ls 2 [(0, hp_v B o)] → hp_S B D s0 Su30 H locs → hp_mono Sa30 Su30 → W p l e ({ frames := 12, cells := 1004, slots := 36081, locals := 768 } : Room) s m args below meth c H locs (3 + (500 - N) * 2) (73 + (500 - N) * 72) (vx_MQ below (hp_Qa B D s0 (fun r S' => hp_mono Si S' ∧ Q r S')) (hp_XC B D s0 (fun n S' => hp_mono Si S' ∧ X n S')) args s 1004 36081 (fun q => B < q)) (F0 m 30 ls []) := by
      intro N
      induction N with
      | zero =>
        intro Su30 H locs ls hN5 hN
        exact absurd hN (Nat.not_lt_zero _)
      | succ N ih30 =>
        intro Su30 H locs ls hN5 hN hI hl hR ms30
        have h := hst Su30 ms30 hI
        have hm := hp_mono.tr hm ms30
        obtain ⟨K30, hKe30⟩ : ∃ K : hp_St → Prop, K = (fun Sk => I30 Sk ∧ μ30 Sk < μ30 Su30) := ⟨_, rfl⟩
        rw [← hKe30] at h
        have hK30 : ∀ (Sk : hp_St) (H : Heap) (locs : List Loc) (ls : Array Slot), K30 Sk → lv_has ls 2 [(0, hp_v B o)] → hp_S B D s0 Sk H locs → hp_mono Sa30 Sk → W p l e ({ frames := 12, cells := 1004, slots := 36081, locals := 768 } : Room) s m args below meth c H locs (3 + (500 - N) * 2) (73 + (500 - N) * 72) (vx_MQ below (hp_Qa B D s0 (fun r S' => hp_mono Si S' ∧ Q r S')) (hp_XC B D s0 (fun n S' => hp_mono Si S' ∧ X n S')) args s 1004 36081 (fun q => B < q)) (F0 m 30 ls []) := by
          intro Sk H locs ls hI hl hR ms
          rw [hKe30] at hI
          exact ih30 Sk H locs ls (by omega) (Nat.lt_of_lt_of_le hI.2 (Nat.le_of_lt_succ hN)) hI.1 hl hR ms
        unfold wb_X2_read_30 at h
        refine hp_aload_n E hl 0 rfl 0 rfl dX2_read_30 (rfl : 30 + 1 = 31) ?_
        refine hp_getI E hR in_X2 (hp_mono.c hm hc0) rfl 3 (Nat.le_of_ble_eq_true rfl) rfl q126 (fun _ h => h) dX2_read_31 (rfl : 31 + 3 = 34) ?_
        refine hp_iconst E (3 : Int32) (by decide) dX2_read_34 (rfl : 34 + 1 = 35) ?_
        refine hp_icmp_eq E dX2_read_35 (rfl : 35 + 3 = 38) (tgt := 45) (by decide) (fun hb => ?_) (fun hb => ?_)
        · have h := h.1 hb
          refine hp_aload_n E hl 0 rfl 0 rfl dX2_read_45 (rfl : 45 + 1 = 46) ?_
          refine hp_getR E hR in_X2 (hp_mono.c hm hc0) rfl 6 (Nat.le_of_ble_eq_true rfl) rfl q129 (fun _ h => h) dX2_read_46 (rfl : 46 + 3 = 49) ?_
          exact vx_ret (hp_aret E hR (Or.inl ⟨_, rfl⟩) ⟨hm, h⟩ (by omega) (by omega) dX2_read_49)
        · have h := h.2 hb
          refine hp_aload_n E hl 0 rfl 0 rfl dX2_read_38 (rfl : 38 + 1 = 39) ?_
          have h : wp_X2_line o Su30 _ _ := h
          refine hp_xv E (hp_rVX E hR hl (m_X2_line G _ _ _ _ (hp_mono.c hm hc0) h) (hp_mono.c hm hc0) (ci := 1) rfl rfl q466 q468 qs4 q74 q469 nf_X2_line ⟨Nat.le_of_ble_eq_true rfl, Nat.le_of_ble_eq_true rfl⟩ (rest := []) rfl (Nat.le_of_ble_eq_true rfl) dX2_read_39 ⟨by show 3 + (500 - (N + 1)) * 2 + 3 ≤ 1004; omega, by show 73 + (500 - (N + 1)) * 72 + 80 ≤ 36081; omega⟩) hR hex (fun n S' hq => ⟨hp_mono.tr hm hq.1, hq.2 hq.1⟩) (by omega) (by omega) (rfl : 39 + 3 = 42) (fun S3001 H locs hq hR => ?_)
          obtain ⟨hm3002, h⟩ := hq
          have h := h hm3002
          have hm := hp_mono.tr hm hm3002
          have ms30 := hp_mono.tr ms30 hm3002
          refine hp_goto E (tgt := 30) dX2_read_42 (by decide) ?_
          exact W.widen (by omega) (by omega) (hK30 _ _ _ _ h hl hR ms30)
    exact W.widen (by omega) (by omega) (key30 (μ30 Sa30 + 1) _ H locs ls (by omega) (Nat.lt_succ_self _) hI hl hR hp_mono.rf)
  unfold wp_X2_read at h
  refine hp_aload_n E hl 0 rfl 0 rfl dX2_read_0 (rfl : 0 + 1 = 1) ?_
  refine hp_iconst E (0 : Int32) (by decide) dX2_read_1 (rfl : 1 + 1 = 2) ?_
  refine hx_putI E hR in_X2 tyX2 tyX2_ok nmX2 hc0 rfl 0 (Nat.le_of_ble_eq_true rfl) rfl q123 (fun _ h => h) (Or.inl rfl) (Or.inl rfl) dX2_read_2 (rfl : 2 + 3 = 5) (fun S1 H locs e3 hm2 hR => ?_)
  have h := h S1 e3
  have hm := hp_mono.tr hm hm2
  refine hp_aload_n E hl 0 rfl 0 rfl dX2_read_5 (rfl : 5 + 1 = 6) ?_
  refine hp_iload_n E hl 1 rfl 1 rfl dX2_read_6 (rfl : 6 + 1 = 7) ?_
  refine hx_putI E hR in_X2 tyX2 tyX2_ok nmX2 (hp_mono.c hm hc0) rfl 1 (Nat.le_of_ble_eq_true rfl) rfl q124 (fun _ h => h) (Or.inl rfl) (Or.inl rfl) dX2_read_7 (rfl : 7 + 3 = 10) (fun S4 H locs e6 hm5 hR => ?_)
  have h := h S4 e6
  have hm := hp_mono.tr hm hm5
  refine hp_aload_n E hl 0 rfl 0 rfl dX2_read_10 (rfl : 10 + 1 = 11) ?_
  refine hp_iconst E (0 : Int32) (by decide) dX2_read_11 (rfl : 11 + 1 = 12) ?_
  refine hx_putI E hR in_X2 tyX2 tyX2_ok nmX2 (hp_mono.c hm hc0) rfl 5 (Nat.le_of_ble_eq_true rfl) rfl q128 (fun _ h => h) (Or.inl rfl) (Or.inl rfl) dX2_read_12 (rfl : 12 + 3 = 15) (fun S7 H locs e9 hm8 hR => ?_)
  have h := h S7 e9
  have hm := hp_mono.tr hm hm8
  refine hp_aload_n E hl 0 rfl 0 rfl dX2_read_15 (rfl : 15 + 1 = 16) ?_
  refine hx_new E hR in_X3 tyX3 tyX3_ok (ci := 2) rfl hd_X3 q401 q150 q75 (Nat.le_of_ble_eq_true rfl) (Nat.le_of_ble_eq_true rfl) dX2_read_16 (rfl : 16 + 3 = 19) (fun n13 S10 H e14 e12 hf15 hm11 hc16 hR => ?_)
  have h := h n13 S10 e14 e12 hf15
  have hm := hp_mono.tr hm hm11
  refine hp_dup E hp_vc dX2_read_19 (rfl : 19 + 1 = 20) ?_
  refine hp_fv (hp_rIN E hR hl (hp_ne hR hc16) (m_X3_init G _ _ _ hc16 h) rfl q402 q152 q75 q153 nf_X3_init ⟨Nat.le_of_ble_eq_true rfl, Nat.le_of_ble_eq_true rfl⟩ (rest := [hp_v B n13, hp_v B o]) rfl (Nat.le_of_ble_eq_true rfl) dX2_read_20 ⟨Nat.le_of_ble_eq_true rfl, Nat.le_of_ble_eq_true rfl⟩) hR (rfl : 20 + 3 = 23) (fun S17 H locs hq hR => ?_)
  obtain ⟨hm18, h⟩ := hq
  have h := h hm18
  have hm := hp_mono.tr hm hm18
  refine hx_putR E hR in_X2 tyX2 tyX2_ok nmX2 (hp_mono.c hm hc0) rfl 6 (Nat.le_of_ble_eq_true rfl) rfl q129 (fun _ h => h) (Or.inl rfl) rfl dX2_read_23 (rfl : 23 + 3 = 26) (fun S19 H locs e21 hm20 hR => ?_)
  have h := h S19 e21
  have hm := hp_mono.tr hm hm20
  refine hp_aload_n E hl 0 rfl 0 rfl dX2_read_26 (rfl : 26 + 1 = 27) ?_
  refine hp_fv (hp_rV E hR hl (m_X2_next G _ _ _ (hp_mono.c hm hc0) h) (hp_mono.c hm hc0) (ci := 1) rfl rfl q403 q405 qs1 q74 q406 nf_X2_next ⟨Nat.le_of_ble_eq_true rfl, Nat.le_of_ble_eq_true rfl⟩ (rest := []) rfl (Nat.le_of_ble_eq_true rfl) dX2_read_27 ⟨Nat.le_of_ble_eq_true rfl, Nat.le_of_ble_eq_true rfl⟩) hR (rfl : 27 + 3 = 30) (fun S22 H locs hq hR => ?_)
  obtain ⟨hm23, h⟩ := hq
  have h := h hm23
  have hm := hp_mono.tr hm hm23
  exact b30 _ _ _ _ h (lv_sub hl [0] rfl) hR hm
