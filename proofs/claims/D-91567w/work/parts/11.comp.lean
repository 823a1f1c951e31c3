theorem hd_J2 : ∀ j, j < 3 → defaultValue (tyJ2 j) = if hp_ir (16 + 1) j = true then .null else .int 0 := by
  intro j hj
  rcases (by omega : j = 0 ∨ j = 1 ∨ j = 2) with rfl | rfl | rfl <;> rfl
theorem hd_X1 : ∀ j, j < 19 → defaultValue (tyX1 j) = if hp_ir (0 + 1) j = true then .null else .int 0 := by
  intro j hj
  rcases (by omega : j = 0 ∨ j = 1 ∨ j = 2 ∨ j = 3 ∨ j = 4 ∨ j = 5 ∨ j = 6 ∨ j = 7 ∨ j = 8 ∨ j = 9 ∨ j = 10 ∨ j = 11 ∨ j = 12 ∨ j = 13 ∨ j = 14 ∨ j = 15 ∨ j = 16 ∨ j = 17 ∨ j = 18) with rfl | rfl | rfl | rfl | rfl | rfl | rfl | rfl | rfl | rfl | rfl | rfl | rfl | rfl | rfl | rfl | rfl | rfl | rfl <;> rfl
theorem hd_X10 : ∀ j, j < 3 → defaultValue (tyX10 j) = if hp_ir (9 + 1) j = true then .null else .int 0 := by
  intro j hj
  rcases (by omega : j = 0 ∨ j = 1 ∨ j = 2) with rfl | rfl | rfl <;> rfl
theorem hd_X11 : ∀ j, j < 7 → defaultValue (tyX11 j) = if hp_ir (10 + 1) j = true then .null else .int 0 := by
  intro j hj
  rcases (by omega : j = 0 ∨ j = 1 ∨ j = 2 ∨ j = 3 ∨ j = 4 ∨ j = 5 ∨ j = 6) with rfl | rfl | rfl | rfl | rfl | rfl | rfl <;> rfl
theorem hd_X12 : ∀ j, j < 8 → defaultValue (tyX12 j) = if hp_ir (11 + 1) j = true then .null else .int 0 := by
  intro j hj
  rcases (by omega : j = 0 ∨ j = 1 ∨ j = 2 ∨ j = 3 ∨ j = 4 ∨ j = 5 ∨ j = 6 ∨ j = 7) with rfl | rfl | rfl | rfl | rfl | rfl | rfl | rfl <;> rfl
theorem hd_X13 : ∀ j, j < 4 → defaultValue (tyX13 j) = if hp_ir (12 + 1) j = true then .null else .int 0 := by
  intro j hj
  rcases (by omega : j = 0 ∨ j = 1 ∨ j = 2 ∨ j = 3) with rfl | rfl | rfl | rfl <;> rfl
theorem hd_X16 : ∀ j, j < 3 → defaultValue (tyN16 j) = if hp_ir (13 + 1) j = true then .null else .int 0 := by
  intro j hj
  rcases (by omega : j = 0 ∨ j = 1 ∨ j = 2) with rfl | rfl | rfl <;> rfl
theorem hd_X17 : ∀ j, j < 3 → defaultValue (tyN16 j) = if hp_ir (14 + 1) j = true then .null else .int 0 := by
  intro j hj
  rcases (by omega : j = 0 ∨ j = 1 ∨ j = 2) with rfl | rfl | rfl <;> rfl
theorem hd_X18 : ∀ j, j < 2 → defaultValue (tyX18 j) = if hp_ir (15 + 1) j = true then .null else .int 0 := by
  intro j hj
  rcases (by omega : j = 0 ∨ j = 1) with rfl | rfl <;> rfl
theorem hd_X2 : ∀ j, j < 8 → defaultValue (tyX2 j) = if hp_ir (1 + 1) j = true then .null else .int 0 := by
  intro j hj
  rcases (by omega : j = 0 ∨ j = 1 ∨ j = 2 ∨ j = 3 ∨ j = 4 ∨ j = 5 ∨ j = 6 ∨ j = 7) with rfl | rfl | rfl | rfl | rfl | rfl | rfl | rfl <;> rfl
theorem hd_X3 : ∀ j, j < 6 → defaultValue (tyX3 j) = if hp_ir (2 + 1) j = true then .null else .int 0 := by
  intro j hj
  rcases (by omega : j = 0 ∨ j = 1 ∨ j = 2 ∨ j = 3 ∨ j = 4 ∨ j = 5) with rfl | rfl | rfl | rfl | rfl | rfl <;> rfl
theorem hd_X4 : ∀ j, j < 5 → defaultValue (tyX4 j) = if hp_ir (3 + 1) j = true then .null else .int 0 := by
  intro j hj
  rcases (by omega : j = 0 ∨ j = 1 ∨ j = 2 ∨ j = 3 ∨ j = 4) with rfl | rfl | rfl | rfl | rfl <;> rfl
theorem hd_X5 : ∀ j, j < 3 → defaultValue (tyX5 j) = if hp_ir (4 + 1) j = true then .null else .int 0 := by
  intro j hj
  rcases (by omega : j = 0 ∨ j = 1 ∨ j = 2) with rfl | rfl | rfl <;> rfl
theorem hd_X6 : ∀ j, j < 11 → defaultValue (tyX6 j) = if hp_ir (5 + 1) j = true then .null else .int 0 := by
  intro j hj
  rcases (by omega : j = 0 ∨ j = 1 ∨ j = 2 ∨ j = 3 ∨ j = 4 ∨ j = 5 ∨ j = 6 ∨ j = 7 ∨ j = 8 ∨ j = 9 ∨ j = 10) with rfl | rfl | rfl | rfl | rfl | rfl | rfl | rfl | rfl | rfl | rfl <;> rfl
theorem hd_X8 : ∀ j, j < 2 → defaultValue (tyN8 j) = if hp_ir (7 + 1) j = true then .null else .int 0 := by
  intro j hj
  rcases (by omega : j = 0 ∨ j = 1) with rfl | rfl <;> rfl
theorem hd_X9 : ∀ j, j < 8 → defaultValue (tyX9 j) = if hp_ir (8 + 1) j = true then .null else .int 0 := by
  intro j hj
  rcases (by omega : j = 0 ∨ j = 1 ∨ j = 2 ∨ j = 3 ∨ j = 4 ∨ j = 5 ∨ j = 6 ∨ j = 7) with rfl | rfl | rfl | rfl | rfl | rfl | rfl | rfl <;> rfl
def wp_J0_init (o : Nat) (S : hp_St) (Q : Prop) : Prop := Q
theorem nf_J0_init : hp_nf yJ0_init 0 = true := by decide +kernel
set_option maxHeartbeats 4000000 in
theorem m_J0_init {l : Launch} {B : Nat} {D : va_G} {s0 : State} {b0 : Nat} (G : hp_G l B D s0 b0) (o : Nat) (Si : hp_St) (Q : Prop) (hc0 : st_C Si o = 17) (h : wp_J0_init o Si Q) : hp_M l B D s0 yJ0_init cJ0_init 1 none 2 128 0 0 [hp_v B o] Si (hp_Qv B D s0 (fun S' => S' = Si ∧ Q)) := by
  refine hp_start G (by decide +kernel) rfl rfl (lv := [(0, hp_v B o)]) (by simp [lg_sl, hp_vc, hp_ci, hp_cj]) (by simp [lv_args, hp_vc, hp_ci, hp_cj]) ?_
  intro p e s m args below meth c E ls hl hR
  unfold wp_J0_init at h
  refine hp_aload_n E hl 0 rfl 0 rfl dJ0_init_0 (rfl : 0 + 1 = 1) ?_
  refine hp_obj E hl (hp_ne hR hc0) q166 q115 q116 dJ0_init_1 (rfl : 1 + 3 = 4) (Nat.le_of_ble_eq_true rfl) (Nat.le_of_ble_eq_true rfl) (Nat.le_of_ble_eq_true rfl) ?_
  exact hp_vret E hR ⟨rfl, h⟩ (Nat.le_of_ble_eq_true rfl) (Nat.le_of_ble_eq_true rfl) dJ0_init_4
def wp_J1_init (o : Nat) (S : hp_St) (Q : hp_St → Prop) : Prop := wp_J0_init o S ((∀ S1, S1 = st_pI S o 0 (0 : Int32) → Q S1))
theorem nf_J1_init : hp_nf yJ1_init 0 = true := by decide +kernel
set_option maxHeartbeats 4000000 in
theorem m_J1_init {l : Launch} {B : Nat} {D : va_G} {s0 : State} {b0 : Nat} (G : hp_G l B D s0 b0) (o : Nat) (Si : hp_St) (Q : hp_St → Prop) (hc0 : st_C Si o = 17) (h : wp_J1_init o Si Q) : hp_M l B D s0 yJ1_init cJ1_init 1 none 3 192 0 0 [hp_v B o] Si (hp_Qv B D s0 (fun S' => hp_mono Si S' ∧ Q S')) := by
  refine hp_start G (by decide +kernel) rfl rfl (lv := [(0, hp_v B o)]) (by simp [lg_sl, hp_vc, hp_ci, hp_cj]) (by simp [lv_args, hp_vc, hp_ci, hp_cj]) ?_
  intro p e s m args below meth c E ls hl hR
  have hm : hp_mono Si Si := hp_mono.rf
  unfold wp_J1_init at h
  refine hp_aload_n E hl 0 rfl 0 rfl dJ1_init_0 (rfl : 0 + 1 = 1) ?_
  refine hp_fv (hp_rI E hR hl (hp_ne hR hc0) (m_J0_init G _ _ _ hc0 h) rfl q163 q164 q76 q165 nf_J0_init ⟨Nat.le_of_ble_eq_true rfl, Nat.le_of_ble_eq_true rfl⟩ (rest := []) rfl (Nat.le_of_ble_eq_true rfl) dJ1_init_1 ⟨Nat.le_of_ble_eq_true rfl, Nat.le_of_ble_eq_true rfl⟩) hR (rfl : 1 + 3 = 4) (fun Sx H locs hq hR => ?_)
  obtain ⟨hSx, h⟩ := hq
  rw [hSx] at hR
  refine hp_aload_n E hl 0 rfl 0 rfl dJ1_init_4 (rfl : 4 + 1 = 5) ?_
  refine hp_iconst E (0 : Int32) (by decide) dJ1_init_5 (rfl : 5 + 1 = 6) ?_
  refine hx_putI E hR in_J2 tyJ2 tyJ2_ok nmJ2 hc0 rfl 0 (Nat.le_of_ble_eq_true rfl) rfl q173 (fun _ h => h) (Or.inl rfl) (Or.inl rfl) dJ1_init_6 (rfl : 6 + 3 = 9) (fun S1 H locs e3 hm2 hR => ?_)
  have h := h S1 e3
  have hm := hp_mono.tr hm hm2
  exact hp_vret E hR ⟨hm, h⟩ (Nat.le_of_ble_eq_true rfl) (Nat.le_of_ble_eq_true rfl) dJ1_init_9
def wb_J2_init_60 (o : Nat) (a1 : Int32) (S : hp_St) (Q : hp_St → Prop) : Prop := Q S
def wp_J2_init (o : Nat) (a1 : Int32) (S : hp_St) (Q : hp_St → Prop) : Prop := wp_J1_init o S (fun S1 => hp_mono S S1 → (((a1 ≤ 0) → (((a1 = 0) → False) ∧ ((¬ (a1 = 0)) → False))) ∧ ((¬ (a1 ≤ 0)) → (¬ a1 < 0) ∧ (a1.toNatClampNeg ≤ 64) ∧ (∀ n8 S5, n8 = st_Z S1 → S5 = st_nA S1 54 a1.toNatClampNeg → hp_fr S1 n8 → (∀ S12, S12 = st_pR S5 o 1 n8 → wb_J2_init_60 o a1 S12 Q)))))
theorem nf_J2_init : hp_nf yJ2_init 1 = true := by decide +kernel
set_option maxHeartbeats 4000000 in
theorem m_J2_init {l : Launch} {B : Nat} {D : va_G} {s0 : State} {b0 : Nat} (G : hp_G l B D s0 b0) (o : Nat) (a1 : Int32) (Si : hp_St) (Q : hp_St → Prop) (hc0 : st_C Si o = 17) (h : wp_J2_init o a1 Si Q) : hp_M l B D s0 yJ2_init cJ2_init 2 none 4 256 1 64 [hp_v B o, .int a1] Si (hp_Qv B D s0 (fun S' => hp_mono Si S' ∧ Q S')) := by
  refine hp_start G (by decide +kernel) rfl rfl (lv := [(0, hp_v B o), (1, .int a1)]) (by simp [lg_sl, hp_vc, hp_ci, hp_cj]) (by simp [lv_args, hp_vc, hp_ci, hp_cj]) ?_
  intro p e s m args below meth c E ls hl hR
  have hm : hp_mono Si Si := hp_mono.rf
  generalize hH : s.heap = H at hR ⊢
  generalize hLo : ([] : List Loc) = locs at hR ⊢
  have b60 : ∀ (S : hp_St) (H : Heap) (locs : List Loc) (ls : Array Slot), wb_J2_init_60 o a1 S Q → lv_has ls 2 [] → hp_S B D s0 S H locs → hp_mono Si S → W p l e ({ frames := 4, cells := 1, slots := 64, locals := 256 } : Room) s m args below meth c H locs 1 64 (MQ below (hp_Qv B D s0 (fun S' => hp_mono Si S' ∧ Q S')) args s 1 64 (fun q => B < q)) (F0 m 60 ls []) := by
    intro S H locs ls h hl hR hm
    unfold wb_J2_init_60 at h
    exact hp_vret E hR ⟨hm, h⟩ (Nat.le_of_ble_eq_true rfl) (Nat.le_of_ble_eq_true rfl) dJ2_init_60
  unfold wp_J2_init at h
  refine hp_aload_n E hl 0 rfl 0 rfl dJ2_init_0 (rfl : 0 + 1 = 1) ?_
  refine hp_fv (hp_rI E hR hl (hp_ne hR hc0) (m_J1_init G _ _ _ hc0 h) rfl q160 q161 q77 q162 nf_J1_init ⟨Nat.le_of_ble_eq_true rfl, Nat.le_of_ble_eq_true rfl⟩ (rest := []) rfl (Nat.le_of_ble_eq_true rfl) dJ2_init_1 ⟨Nat.le_of_ble_eq_true rfl, Nat.le_of_ble_eq_true rfl⟩) hR (rfl : 1 + 3 = 4) (fun S1 H locs hq hR => ?_)
  obtain ⟨hm2, h⟩ := hq
  have h := h hm2
  have hm := hp_mono.tr hm hm2
  refine hp_iload_n E hl 1 rfl 1 rfl dJ2_init_4 (rfl : 4 + 1 = 5) ?_
  refine hp_if_le E dJ2_init_5 (rfl : 5 + 3 = 8) (tgt := 19) (by decide) (fun hb => ?_) (fun hb => ?_)
  · have h := h.1 hb
    refine hp_iload_n E hl 1 rfl 1 rfl dJ2_init_19 (rfl : 19 + 1 = 20) ?_
    refine hp_if_ne E dJ2_init_20 (rfl : 20 + 3 = 23) (tgt := 33) (by decide) (fun hb => ?_) (fun hb => ?_)
    · have h := h.1 hb
      exact h.elim
    · have h := h.2 hb
      exact h.elim
  · have h := h.2 hb
    refine hp_aload_n E hl 0 rfl 0 rfl dJ2_init_8 (rfl : 8 + 1 = 9) ?_
    refine hp_iload_n E hl 1 rfl 1 rfl dJ2_init_9 (rfl : 9 + 1 = 10) ?_
    obtain ⟨hn3, hn4, h⟩ := h
    refine hx_anew E hR 64 (Nat.le_of_ble_eq_true rfl) q167 q168 hn3 hn4 (Nat.le_of_ble_eq_true rfl) (Nat.le_of_ble_eq_true rfl) dJ2_init_10 (rfl : 10 + 3 = 13) (fun n8 S5 H e9 e7 hf10 hm6 hc11 hR => ?_)
    have h := h n8 S5 e9 e7 hf10
    have hm := hp_mono.tr hm hm6
    refine hx_putR E hR in_J2 tyJ2 tyJ2_ok nmJ2 (hp_mono.c hm hc0) rfl 1 (Nat.le_of_ble_eq_true rfl) rfl q171 (fun _ h => h) (Or.inl rfl) rfl dJ2_init_13 (rfl : 13 + 3 = 16) (fun S12 H locs e14 hm13 hR => ?_)
    have h := h S12 e14
    have hm := hp_mono.tr hm hm13
    refine hp_goto E (tgt := 60) dJ2_init_16 (by decide) ?_
    exact b60 _ _ _ _ h (lv_sub hl [] rfl) hR hm
def wp_J2_size (o : Nat) (S : hp_St) (Q : Int32 → Prop) : Prop := Q (st_I S o 2)
theorem nf_J2_size : hp_nf yJ2_size 0 = true := by decide +kernel
set_option maxHeartbeats 4000000 in
theorem m_J2_size {l : Launch} {B : Nat} {D : va_G} {s0 : State} {b0 : Nat} (G : hp_G l B D s0 b0) (o : Nat) (Si : hp_St) (Q : Int32 → Prop) (hc0 : st_C Si o = 17) (h : wp_J2_size o Si Q) : hp_M l B D s0 yJ2_size cJ2_size 1 (some .int) 2 128 0 0 [hp_v B o] Si (hp_Qi B D s0 (fun r S' => S' = Si ∧ Q r)) := by
  refine hp_start G (by decide +kernel) rfl rfl (lv := [(0, hp_v B o)]) (by simp [lg_sl, hp_vc, hp_ci, hp_cj]) (by simp [lv_args, hp_vc, hp_ci, hp_cj]) ?_
  intro p e s m args below meth c E ls hl hR
  unfold wp_J2_size at h
  refine hp_aload_n E hl 0 rfl 0 rfl dJ2_size_0 (rfl : 0 + 1 = 1) ?_
  refine hp_getI E hR in_J2 hc0 rfl 2 (Nat.le_of_ble_eq_true rfl) rfl q172 (fun _ h => h) dJ2_size_1 (rfl : 1 + 3 = 4) ?_
  exact hp_iret E hR ⟨rfl, h⟩ (Nat.le_of_ble_eq_true rfl) (Nat.le_of_ble_eq_true rfl) dJ2_size_4
def wb_J9_newLength_21 (a0 : Int32) (a1 : Int32) (a2 : Int32) (S : hp_St) (Q : Int32 → Prop) : Prop := False
def wp_J9_newLength (a0 : Int32) (a1 : Int32) (a2 : Int32) (S : hp_St) (Q : Int32 → Prop) : Prop := ((((0 : Int32) < (a0 + (if a1 < a2 then a2 else a1))) → ((((a0 + (if a1 < a2 then a2 else a1)) ≤ (2147483639 : Int32)) → Q (a0 + (if a1 < a2 then a2 else a1))) ∧ ((¬ ((a0 + (if a1 < a2 then a2 else a1)) ≤ (2147483639 : Int32))) → wb_J9_newLength_21 a0 a1 a2 S Q))) ∧ ((¬ ((0 : Int32) < (a0 + (if a1 < a2 then a2 else a1)))) → wb_J9_newLength_21 a0 a1 a2 S Q))
theorem nf_J9_newLength : hp_nf yJ9_newLength 3 = true := by decide +kernel
set_option maxHeartbeats 4000000 in
theorem m_J9_newLength {l : Launch} {B : Nat} {D : va_G} {s0 : State} {b0 : Nat} (G : hp_G l B D s0 b0) (a0 : Int32) (a1 : Int32) (a2 : Int32) (Si : hp_St) (Q : Int32 → Prop) (h : wp_J9_newLength a0 a1 a2 Si Q) : hp_M l B D s0 yJ9_newLength cJ9_newLength 4 (some .int) 2 128 0 0 [.int a0, .int a1, .int a2] Si (hp_Qi B D s0 (fun r S' => S' = Si ∧ Q r)) := by
  refine hp_start G (by decide +kernel) rfl rfl (lv := [(0, .int a0), (1, .int a1), (2, .int a2)]) (by simp [lg_sl, hp_vc, hp_ci, hp_cj]) (by simp [lv_args, hp_vc, hp_ci, hp_cj]) ?_
  intro p e s m args below meth c E ls hl hR
  generalize hH : s.heap = H at hR ⊢
  generalize hLo : ([] : List Loc) = locs at hR ⊢
  have b21 : ∀ (H : Heap) (locs : List Loc) (ls : Array Slot), wb_J9_newLength_21 a0 a1 a2 Si Q → lv_has ls 4 [(0, .int a0), (1, .int a1)] → hp_S B D s0 Si H locs → W p l e ({ frames := 2, cells := 0, slots := 0, locals := 128 } : Room) s m args below meth c H locs 0 0 (MQ below (hp_Qi B D s0 (fun r S' => S' = Si ∧ Q r)) args s 0 0 (fun q => B < q)) (F0 m 21 ls []) := by
    intro  H locs ls h hl hR
    unfold wb_J9_newLength_21 at h
    exact h.elim
  unfold wp_J9_newLength at h
  refine hp_iload_n E hl 0 rfl 0 rfl dJ9_newLength_0 (rfl : 0 + 1 = 1) ?_
  refine hp_iload_n E hl 1 rfl 1 rfl dJ9_newLength_1 (rfl : 1 + 1 = 2) ?_
  refine hp_iload_n E hl 2 rfl 2 rfl dJ9_newLength_2 (rfl : 2 + 1 = 3) ?_
  refine hp_max E hl q633 (Nat.le_of_ble_eq_true rfl) (Nat.le_of_ble_eq_true rfl) (Nat.le_of_ble_eq_true rfl) (Nat.le_of_ble_eq_true rfl) (Nat.le_of_ble_eq_true rfl) dJ9_newLength_3 (rfl : 3 + 3 = 6) ?_
  refine hp_iadd E dJ9_newLength_6 (rfl : 6 + 1 = 7) ?_
  refine hp_istore_n E hl 3 rfl (lv' := [(0, .int a0), (1, .int a1), (2, .int a2)]) dJ9_newLength_7 (rfl : 7 + 1 = 8) (by decide) rfl (fun ls hl => ?_)
  refine hp_iconst E (0 : Int32) (by decide) dJ9_newLength_8 (rfl : 8 + 1 = 9) ?_
  refine hp_iload_n E hl 3 rfl 0 rfl dJ9_newLength_9 (rfl : 9 + 1 = 10) ?_
  refine hp_icmp_ge E dJ9_newLength_10 (rfl : 10 + 3 = 13) (tgt := 21) (by decide) (fun hb => ?_) (fun hb => ?_)
  · have h := h.1 hb
    refine hp_iload_n E hl 3 rfl 0 rfl dJ9_newLength_13 (rfl : 13 + 1 = 14) ?_
    refine hp_ldc E q636 dJ9_newLength_14 (rfl : 14 + 2 = 16) ?_
    refine hp_icmp_gt E dJ9_newLength_16 (rfl : 16 + 3 = 19) (tgt := 21) (by decide) (fun hb => ?_) (fun hb => ?_)
    · have h := h.1 hb
      refine hp_iload_n E hl 3 rfl 0 rfl dJ9_newLength_19 (rfl : 19 + 1 = 20) ?_
      exact hp_iret E hR ⟨rfl, h⟩ (Nat.le_of_ble_eq_true rfl) (Nat.le_of_ble_eq_true rfl) dJ9_newLength_20
    · have h := h.2 hb
      exact b21 _ _ _ h (lv_sub hl [1, 2] rfl) hR
  · have h := h.2 hb
    exact b21 _ _ _ h (lv_sub hl [1, 2] rfl) hR
def wb_J2_grow_2_20 (o : Nat) (a1 : Int32) (v2 : Int32) (S : hp_St) (Q : Nat → hp_St → Prop) : Prop := wp_J9_newLength v2 (a1 - v2) (v2 >>> ((1 : Int32) &&& 31)) S (fun z2001 => wp_J11_copyOf (st_R S o 1) z2001 S (fun z2002 S2003 => hp_mono S S2003 → (∀ S2005, S2005 = st_pR S2003 o 1 z2002 → Q z2002 S2005)))
def wp_J2_grow_2 (o : Nat) (a1 : Int32) (S : hp_St) (Q : Nat → hp_St → Prop) : Prop := (st_C S (st_R S o 1) = 54) ∧ ((((nI (st_L S (st_R S o 1))) ≤ 0) → False) ∧ ((¬ ((nI (st_L S (st_R S o 1))) ≤ 0)) → wb_J2_grow_2_20 o a1 (nI (st_L S (st_R S o 1))) S Q))
theorem nf_J2_grow_2 : hp_nf yJ2_grow_2 1 = true := by decide +kernel
set_option maxHeartbeats 4000000 in
theorem m_J2_grow_2 {l : Launch} {B : Nat} {D : va_G} {s0 : State} {b0 : Nat} (G : hp_G l B D s0 b0) (o : Nat) (a1 : Int32) (Si : hp_St) (Q : Nat → hp_St → Prop) (hc0 : st_C Si o = 17) (h : wp_J2_grow_2 o a1 Si Q) : hp_M l B D s0 yJ2_grow_2 cJ2_grow_2 4 (some (.array (.object "java/lang/Object"))) 5 320 1 64 [hp_v B o, .int a1] Si (hp_Qa B D s0 (fun r S' => hp_mono Si S' ∧ Q r S')) := by
  refine hp_start G (by decide +kernel) rfl rfl (lv := [(0, hp_v B o), (1, .int a1)]) (by simp [lg_sl, hp_vc, hp_ci, hp_cj]) (by simp [lv_args, hp_vc, hp_ci, hp_cj]) ?_
  intro p e s m args below meth c E ls hl hR
  have hm : hp_mono Si Si := hp_mono.rf
  generalize hH : s.heap = H at hR ⊢
  generalize hLo : ([] : List Loc) = locs at hR ⊢
  have b20 : ∀ (v2 : Int32) (S : hp_St) (H : Heap) (locs : List Loc) (ls : Array Slot), wb_J2_grow_2_20 o a1 v2 S Q → lv_has ls 4 [(0, hp_v B o), (1, .int a1), (2, .int v2)] → hp_S B D s0 S H locs → hp_mono Si S → W p l e ({ frames := 5, cells := 1, slots := 64, locals := 320 } : Room) s m args below meth c H locs 0 0 (MQ below (hp_Qa B D s0 (fun r S' => hp_mono Si S' ∧ Q r S')) args s 1 64 (fun q => B < q)) (F0 m 20 ls []) := by
    intro v2 S H locs ls h hl hR hm
    unfold wb_J2_grow_2_20 at h
    refine hp_iload_n E hl 2 rfl 2 rfl dJ2_grow_2_20 (rfl : 20 + 1 = 21) ?_
    refine hp_iload_n E hl 1 rfl 1 rfl dJ2_grow_2_21 (rfl : 21 + 1 = 22) ?_
    refine hp_iload_n E hl 2 rfl 2 rfl dJ2_grow_2_22 (rfl : 22 + 1 = 23) ?_
    refine hp_isub E dJ2_grow_2_23 (rfl : 23 + 1 = 24) ?_
    refine hp_iload_n E hl 2 rfl 2 rfl dJ2_grow_2_24 (rfl : 24 + 1 = 25) ?_
    refine hp_iconst E (1 : Int32) (by decide) dJ2_grow_2_25 (rfl : 25 + 1 = 26) ?_
    refine hp_ishr E dJ2_grow_2_26 (rfl : 26 + 1 = 27) ?_
    refine hp_fi (hp_rS E hR hl (m_J9_newLength G _ _ _ _ _ h) q630 q631 q91 q632 nf_J9_newLength ⟨Nat.le_of_ble_eq_true rfl, Nat.le_of_ble_eq_true rfl⟩ (rest := []) rfl (Nat.le_of_ble_eq_true rfl) dJ2_grow_2_27 ⟨Nat.le_of_ble_eq_true rfl, Nat.le_of_ble_eq_true rfl⟩) hR (rfl : 27 + 3 = 30) (fun z2001 Sx H locs hq hR => ?_)
    obtain ⟨hSx, h⟩ := hq
    rw [hSx] at hR
    refine hp_istore_n E hl 3 rfl (lv' := [(0, hp_v B o), (1, .int a1), (2, .int v2)]) dJ2_grow_2_30 (rfl : 30 + 1 = 31) (by decide) rfl (fun ls hl => ?_)
    refine hp_aload_n E hl 0 rfl 1 rfl dJ2_grow_2_31 (rfl : 31 + 1 = 32) ?_
    refine hp_aload_n E hl 0 rfl 1 rfl dJ2_grow_2_32 (rfl : 32 + 1 = 33) ?_
    refine hp_getR E hR in_J2 (hp_mono.c hm hc0) rfl 1 (Nat.le_of_ble_eq_true rfl) rfl q171 (fun _ h => h) dJ2_grow_2_33 (rfl : 33 + 3 = 36) ?_
    refine hp_iload_n E hl 3 rfl 0 rfl dJ2_grow_2_36 (rfl : 36 + 1 = 37) ?_
    refine hp_fa (hp_rS E hR hl (m_J11_copyOf G _ _ _ _ h) q640 q641 q93 q642 nf_J11_copyOf ⟨Nat.le_of_ble_eq_true rfl, Nat.le_of_ble_eq_true rfl⟩ (rest := [hp_v B o]) rfl (Nat.le_of_ble_eq_true rfl) dJ2_grow_2_37 ⟨Nat.le_of_ble_eq_true rfl, Nat.le_of_ble_eq_true rfl⟩) hR (rfl : 37 + 3 = 40) (fun z2002 S2003 H locs hq hR => ?_)
    obtain ⟨hm2004, h⟩ := hq
    have h := h hm2004
    have hm := hp_mono.tr hm hm2004
    refine hp_dup_x1 E hp_vc hp_vc dJ2_grow_2_40 (rfl : 40 + 1 = 41) ?_
    refine hx_putR E hR in_J2 tyJ2 tyJ2_ok nmJ2 (hp_mono.c hm hc0) rfl 1 (Nat.le_of_ble_eq_true rfl) rfl q171 (fun _ h => h) (Or.inl rfl) rfl dJ2_grow_2_41 (rfl : 41 + 3 = 44) (fun S2005 H locs e2007 hm2006 hR => ?_)
    have h := h S2005 e2007
    have hm := hp_mono.tr hm hm2006
    exact hp_aret E hR (Or.inr ⟨_, rfl⟩) ⟨hm, h⟩ (Nat.le_of_ble_eq_true rfl) (Nat.le_of_ble_eq_true rfl) dJ2_grow_2_44
  unfold wp_J2_grow_2 at h
  refine hp_aload_n E hl 0 rfl 0 rfl dJ2_grow_2_0 (rfl : 0 + 1 = 1) ?_
  refine hp_getR E hR in_J2 hc0 rfl 1 (Nat.le_of_ble_eq_true rfl) rfl q171 (fun _ h => h) dJ2_grow_2_1 (rfl : 1 + 3 = 4) ?_
  obtain ⟨hc1, h⟩ := h
  refine hp_alen E hR (by rw [hc1]; decide) dJ2_grow_2_4 (rfl : 4 + 1 = 5) ?_
  refine hp_istore_n E hl 2 rfl (lv' := [(0, hp_v B o), (1, .int a1)]) dJ2_grow_2_5 (rfl : 5 + 1 = 6) (by decide) rfl (fun ls hl => ?_)
  refine hp_iload_n E hl 2 rfl 0 rfl dJ2_grow_2_6 (rfl : 6 + 1 = 7) ?_
  refine hp_if_gt E dJ2_grow_2_7 (rfl : 7 + 3 = 10) (tgt := 20) (by decide) (fun hb => ?_) (fun hb => ?_)
  · have h := h.1 hb
    exact h.elim
  · have h := h.2 hb
    exact b20 _ _ _ _ _ h (lv_sub hl [1, 2, 0] rfl) hR hm
def wp_J2_grow (o : Nat) (S : hp_St) (Q : Nat → hp_St → Prop) : Prop := wp_J2_grow_2 o ((st_I S o 2) + (1 : Int32)) S (fun z1 S2 => hp_mono S S2 → Q z1 S2)
theorem nf_J2_grow : hp_nf yJ2_grow 0 = true := by decide +kernel
set_option maxHeartbeats 4000000 in
theorem m_J2_grow {l : Launch} {B : Nat} {D : va_G} {s0 : State} {b0 : Nat} (G : hp_G l B D s0 b0) (o : Nat) (Si : hp_St) (Q : Nat → hp_St → Prop) (hc0 : st_C Si o = 17) (h : wp_J2_grow o Si Q) : hp_M l B D s0 yJ2_grow cJ2_grow 1 (some (.array (.object "java/lang/Object"))) 6 384 1 64 [hp_v B o] Si (hp_Qa B D s0 (fun r S' => hp_mono Si S' ∧ Q r S')) := by
  refine hp_start G (by decide +kernel) rfl rfl (lv := [(0, hp_v B o)]) (by simp [lg_sl, hp_vc, hp_ci, hp_cj]) (by simp [lv_args, hp_vc, hp_ci, hp_cj]) ?_
  intro p e s m args below meth c E ls hl hR
  have hm : hp_mono Si Si := hp_mono.rf
  unfold wp_J2_grow at h
  refine hp_aload_n E hl 0 rfl 0 rfl dJ2_grow_0 (rfl : 0 + 1 = 1) ?_
  refine hp_aload_n E hl 0 rfl 0 rfl dJ2_grow_1 (rfl : 1 + 1 = 2) ?_
  refine hp_getI E hR in_J2 hc0 rfl 2 (Nat.le_of_ble_eq_true rfl) rfl q172 (fun _ h => h) dJ2_grow_2 (rfl : 2 + 3 = 5) ?_
  refine hp_iconst E (1 : Int32) (by decide) dJ2_grow_5 (rfl : 5 + 1 = 6) ?_
  refine hp_iadd E dJ2_grow_6 (rfl : 6 + 1 = 7) ?_
  refine hp_fa (hp_rV E hR hl (m_J2_grow_2 G _ _ _ _ hc0 h) hc0 (ci := 16) rfl rfl q624 q626 qs15 q78 q627 nf_J2_grow_2 ⟨Nat.le_of_ble_eq_true rfl, Nat.le_of_ble_eq_true rfl⟩ (rest := []) rfl (Nat.le_of_ble_eq_true rfl) dJ2_grow_7 ⟨Nat.le_of_ble_eq_true rfl, Nat.le_of_ble_eq_true rfl⟩) hR (rfl : 7 + 3 = 10) (fun z1 S2 H locs hq hR => ?_)
  obtain ⟨hm3, h⟩ := hq
  have h := h hm3
  have hm := hp_mono.tr hm hm3
  exact hp_aret E hR (Or.inr ⟨_, rfl⟩) ⟨hm, h⟩ (Nat.le_of_ble_eq_true rfl) (Nat.le_of_ble_eq_true rfl) dJ2_grow_10
def wb_J2_add_2_11 (o : Nat) (a1 : Nat) (a3 : Int32) (r2 : Nat) (S : hp_St) (Q : hp_St → Prop) : Prop := (st_C S r2 = 54) ∧ (vp_in a3 (st_L S r2)) ∧ (9 ≤ st_C S a1 ∧ st_C S a1 ≤ 16) ∧ (∀ S1104, S1104 = st_pR S r2 a3.toNatClampNeg a1 → (∀ S1107, S1107 = st_pI S1104 o 2 (a3 + (1 : Int32)) → Q S1107))
def wp_J2_add_2 (o : Nat) (a1 : Nat) (r2 : Nat) (a3 : Int32) (S : hp_St) (Q : hp_St → Prop) : Prop := (st_C S r2 = 54) ∧ (((a3 = (nI (st_L S r2))) → wp_J2_grow o S (fun z2 S3 => hp_mono S S3 → wb_J2_add_2_11 o a1 a3 z2 S3 Q)) ∧ ((¬ (a3 = (nI (st_L S r2)))) → wb_J2_add_2_11 o a1 a3 r2 S Q))
theorem nf_J2_add_2 : hp_nf yJ2_add_2 3 = true := by decide +kernel
set_option maxHeartbeats 4000000 in
theorem m_J2_add_2 {l : Launch} {B : Nat} {D : va_G} {s0 : State} {b0 : Nat} (G : hp_G l B D s0 b0) (o : Nat) (a1 : Nat) (r2 : Nat) (a3 : Int32) (Si : hp_St) (Q : hp_St → Prop) (hc0 : st_C Si o = 17) (h : wp_J2_add_2 o a1 r2 a3 Si Q) : hp_M l B D s0 yJ2_add_2 cJ2_add_2 4 none 7 448 1 64 [hp_v B o, hp_v B a1, hp_v B r2, .int a3] Si (hp_Qv B D s0 (fun S' => hp_mono Si S' ∧ Q S')) := by
  refine hp_start G (by decide +kernel) rfl rfl (lv := [(0, hp_v B o), (1, hp_v B a1), (2, hp_v B r2), (3, .int a3)]) (by simp [lg_sl, hp_vc, hp_ci, hp_cj]) (by simp [lv_args, hp_vc, hp_ci, hp_cj]) ?_
  intro p e s m args below meth c E ls hl hR
  have hm : hp_mono Si Si := hp_mono.rf
  generalize hH : s.heap = H at hR ⊢
  generalize hLo : ([] : List Loc) = locs at hR ⊢
  have b11 : ∀ (r2 : Nat) (S : hp_St) (H : Heap) (locs : List Loc) (ls : Array Slot), wb_J2_add_2_11 o a1 a3 r2 S Q → lv_has ls 4 [(0, hp_v B o), (1, hp_v B a1), (2, hp_v B r2), (3, .int a3)] → hp_S B D s0 S H locs → hp_mono Si S → W p l e ({ frames := 7, cells := 1, slots := 64, locals := 448 } : Room) s m args below meth c H locs 1 64 (MQ below (hp_Qv B D s0 (fun S' => hp_mono Si S' ∧ Q S')) args s 1 64 (fun q => B < q)) (F0 m 11 ls []) := by
    intro r2 S H locs ls h hl hR hm
    unfold wb_J2_add_2_11 at h
    refine hp_aload_n E hl 2 rfl 2 rfl dJ2_add_2_11 (rfl : 11 + 1 = 12) ?_
    refine hp_iload_n E hl 3 rfl 3 rfl dJ2_add_2_12 (rfl : 12 + 1 = 13) ?_
    refine hp_aload_n E hl 1 rfl 1 rfl dJ2_add_2_13 (rfl : 13 + 1 = 14) ?_
    obtain ⟨hc1101, h⟩ := h
    obtain ⟨hi1102, h⟩ := h
    obtain ⟨hv1103, h⟩ := h
    refine hx_aast E hR hc1101 hi1102 hv1103 dJ2_add_2_14 (rfl : 14 + 1 = 15) (fun S1104 H locs e1106 hm1105 hR => ?_)
    have h := h S1104 e1106
    have hm := hp_mono.tr hm hm1105
    refine hp_aload_n E hl 0 rfl 0 rfl dJ2_add_2_15 (rfl : 15 + 1 = 16) ?_
    refine hp_iload_n E hl 3 rfl 3 rfl dJ2_add_2_16 (rfl : 16 + 1 = 17) ?_
    refine hp_iconst E (1 : Int32) (by decide) dJ2_add_2_17 (rfl : 17 + 1 = 18) ?_
    refine hp_iadd E dJ2_add_2_18 (rfl : 18 + 1 = 19) ?_
    refine hx_putI E hR in_J2 tyJ2 tyJ2_ok nmJ2 (hp_mono.c hm hc0) rfl 2 (Nat.le_of_ble_eq_true rfl) rfl q172 (fun _ h => h) (Or.inl rfl) (Or.inl rfl) dJ2_add_2_19 (rfl : 19 + 3 = 22) (fun S1107 H locs e1109 hm1108 hR => ?_)
    have h := h S1107 e1109
    have hm := hp_mono.tr hm hm1108
    exact hp_vret E hR ⟨hm, h⟩ (Nat.le_of_ble_eq_true rfl) (Nat.le_of_ble_eq_true rfl) dJ2_add_2_22
  unfold wp_J2_add_2 at h
  refine hp_iload_n E hl 3 rfl 3 rfl dJ2_add_2_0 (rfl : 0 + 1 = 1) ?_
  refine hp_aload_n E hl 2 rfl 2 rfl dJ2_add_2_1 (rfl : 1 + 1 = 2) ?_
  obtain ⟨hc1, h⟩ := h
  refine hp_alen E hR (by rw [hc1]; decide) dJ2_add_2_2 (rfl : 2 + 1 = 3) ?_
  refine hp_icmp_ne E dJ2_add_2_3 (rfl : 3 + 3 = 6) (tgt := 11) (by decide) (fun hb => ?_) (fun hb => ?_)
  · have h := h.1 hb
    refine hp_aload_n E hl 0 rfl 0 rfl dJ2_add_2_6 (rfl : 6 + 1 = 7) ?_
    refine hp_fa (hp_rV E hR hl (m_J2_grow G _ _ _ hc0 h) hc0 (ci := 16) rfl rfl q620 q622 qs14 q78 q623 nf_J2_grow ⟨Nat.le_of_ble_eq_true rfl, Nat.le_of_ble_eq_true rfl⟩ (rest := []) rfl (Nat.le_of_ble_eq_true rfl) dJ2_add_2_7 ⟨Nat.le_of_ble_eq_true rfl, Nat.le_of_ble_eq_true rfl⟩) hR (rfl : 7 + 3 = 10) (fun z2 S3 H locs hq hR => ?_)
    obtain ⟨hm4, h⟩ := hq
    have h := h hm4
    have hm := hp_mono.tr hm hm4
    refine hp_astore_n E hl 2 rfl (lv' := [(0, hp_v B o), (1, hp_v B a1), (3, .int a3)]) dJ2_add_2_10 (rfl : 10 + 1 = 11) (by decide) (by simp [hp_vc, hp_ci, hp_cj]) (fun ls hl => ?_)
    exact b11 _ _ _ _ _ h (lv_sub hl [1, 2, 0, 3] rfl) hR hm
  · have h := h.2 hb
    exact W.widen (Nat.le_of_ble_eq_true rfl) (Nat.le_of_ble_eq_true rfl) (b11 _ _ _ _ _ h hl hR hm)
def wp_J2_add (o : Nat) (a1 : Nat) (S : hp_St) (Q : Int32 → hp_St → Prop) : Prop := (∀ S1, S1 = st_pI S o 0 ((st_I S o 0) + (1 : Int32)) → wp_J2_add_2 o a1 (st_R S1 o 1) (st_I S1 o 2) S1 (fun S4 => hp_mono S1 S4 → Q (1 : Int32) S4))
theorem nf_J2_add : hp_nf yJ2_add 1 = true := by decide +kernel
set_option maxHeartbeats 4000000 in
theorem m_J2_add {l : Launch} {B : Nat} {D : va_G} {s0 : State} {b0 : Nat} (G : hp_G l B D s0 b0) (o : Nat) (a1 : Nat) (Si : hp_St) (Q : Int32 → hp_St → Prop) (hc0 : st_C Si o = 17) (h : wp_J2_add o a1 Si Q) : hp_M l B D s0 yJ2_add cJ2_add 2 (some .boolean) 8 512 1 64 [hp_v B o, hp_v B a1] Si (hp_Qi B D s0 (fun r S' => hp_mono Si S' ∧ Q r S')) := by
  refine hp_start G (by decide +kernel) rfl rfl (lv := [(0, hp_v B o), (1, hp_v B a1)]) (by simp [lg_sl, hp_vc, hp_ci, hp_cj]) (by simp [lv_args, hp_vc, hp_ci, hp_cj]) ?_
  intro p e s m args below meth c E ls hl hR
  have hm : hp_mono Si Si := hp_mono.rf
  unfold wp_J2_add at h
  refine hp_aload_n E hl 0 rfl 0 rfl dJ2_add_0 (rfl : 0 + 1 = 1) ?_
  refine hp_dup E hp_vc dJ2_add_1 (rfl : 1 + 1 = 2) ?_
  refine hp_getI E hR in_J2 hc0 rfl 0 (Nat.le_of_ble_eq_true rfl) rfl q174 (fun x h => u_same (E.w q175) x h) dJ2_add_2 (rfl : 2 + 3 = 5) ?_
  refine hp_iconst E (1 : Int32) (by decide) dJ2_add_5 (rfl : 5 + 1 = 6) ?_
  refine hp_iadd E dJ2_add_6 (rfl : 6 + 1 = 7) ?_
  refine hx_putI E hR in_J2 tyJ2 tyJ2_ok nmJ2 hc0 rfl 0 (Nat.le_of_ble_eq_true rfl) rfl q174 (fun x h => u_same (E.w q175) x h) (Or.inl rfl) (Or.inl rfl) dJ2_add_7 (rfl : 7 + 3 = 10) (fun S1 H locs e3 hm2 hR => ?_)
  have h := h S1 e3
  have hm := hp_mono.tr hm hm2
  refine hp_aload_n E hl 0 rfl 0 rfl dJ2_add_10 (rfl : 10 + 1 = 11) ?_
  refine hp_aload_n E hl 1 rfl 1 rfl dJ2_add_11 (rfl : 11 + 1 = 12) ?_
  refine hp_aload_n E hl 0 rfl 0 rfl dJ2_add_12 (rfl : 12 + 1 = 13) ?_
  refine hp_getR E hR in_J2 (hp_mono.c hm hc0) rfl 1 (Nat.le_of_ble_eq_true rfl) rfl q171 (fun _ h => h) dJ2_add_13 (rfl : 13 + 3 = 16) ?_
  refine hp_aload_n E hl 0 rfl 0 rfl dJ2_add_16 (rfl : 16 + 1 = 17) ?_
  refine hp_getI E hR in_J2 (hp_mono.c hm hc0) rfl 2 (Nat.le_of_ble_eq_true rfl) rfl q172 (fun _ h => h) dJ2_add_17 (rfl : 17 + 3 = 20) ?_
  refine hp_fv (hp_rV E hR hl (m_J2_add_2 G _ _ _ _ _ _ (hp_mono.c hm hc0) h) (hp_mono.c hm hc0) (ci := 16) rfl rfl q616 q618 qs13 q78 q619 nf_J2_add_2 ⟨Nat.le_of_ble_eq_true rfl, Nat.le_of_ble_eq_true rfl⟩ (rest := []) rfl (Nat.le_of_ble_eq_true rfl) dJ2_add_20 ⟨Nat.le_of_ble_eq_true rfl, Nat.le_of_ble_eq_true rfl⟩) hR (rfl : 20 + 3 = 23) (fun S4 H locs hq hR => ?_)
  obtain ⟨hm5, h⟩ := hq
  have h := h hm5
  have hm := hp_mono.tr hm hm5
  refine hp_iconst E (1 : Int32) (by decide) dJ2_add_23 (rfl : 23 + 1 = 24) ?_
  exact hp_zret E hR (Or.inr rfl) ⟨hm, h⟩ (Nat.le_of_ble_eq_true rfl) (Nat.le_of_ble_eq_true rfl) dJ2_add_24
def wb_J5_checkIndex_9 (a0 : Int32) (a1 : Int32) (a2 : Nat) (S : hp_St) (Q : Int32 → Prop) : Prop := False
def wp_J5_checkIndex (a0 : Int32) (a1 : Int32) (a2 : Nat) (S : hp_St) (Q : Int32 → Prop) : Prop := (((a0 < 0) → wb_J5_checkIndex_9 a0 a1 a2 S Q) ∧ ((¬ (a0 < 0)) → (((a0 < a1) → Q a0) ∧ ((¬ (a0 < a1)) → wb_J5_checkIndex_9 a0 a1 a2 S Q))))
theorem nf_J5_checkIndex : hp_nf yJ5_checkIndex 3 = true := by decide +kernel
set_option maxHeartbeats 4000000 in
theorem m_J5_checkIndex {l : Launch} {B : Nat} {D : va_G} {s0 : State} {b0 : Nat} (G : hp_G l B D s0 b0) (a0 : Int32) (a1 : Int32) (a2 : Nat) (Si : hp_St) (Q : Int32 → Prop) (h : wp_J5_checkIndex a0 a1 a2 Si Q) : hp_M l B D s0 yJ5_checkIndex cJ5_checkIndex 3 (some .int) 2 128 0 0 [.int a0, .int a1, hp_v B a2] Si (hp_Qi B D s0 (fun r S' => S' = Si ∧ Q r)) := by
  refine hp_start G (by decide +kernel) rfl rfl (lv := [(0, .int a0), (1, .int a1), (2, hp_v B a2)]) (by simp [lg_sl, hp_vc, hp_ci, hp_cj]) (by simp [lv_args, hp_vc, hp_ci, hp_cj]) ?_
  intro p e s m args below meth c E ls hl hR
  generalize hH : s.heap = H at hR ⊢
  generalize hLo : ([] : List Loc) = locs at hR ⊢
  have b9 : ∀ (H : Heap) (locs : List Loc) (ls : Array Slot), wb_J5_checkIndex_9 a0 a1 a2 Si Q → lv_has ls 3 [(0, .int a0), (1, .int a1), (2, hp_v B a2)] → hp_S B D s0 Si H locs → W p l e ({ frames := 2, cells := 0, slots := 0, locals := 128 } : Room) s m args below meth c H locs 0 0 (MQ below (hp_Qi B D s0 (fun r S' => S' = Si ∧ Q r)) args s 0 0 (fun q => B < q)) (F0 m 9 ls []) := by
    intro  H locs ls h hl hR
    unfold wb_J5_checkIndex_9 at h
    exact h.elim
  unfold wp_J5_checkIndex at h
  refine hp_iload_n E hl 0 rfl 0 rfl dJ5_checkIndex_0 (rfl : 0 + 1 = 1) ?_
  refine hp_if_lt E dJ5_checkIndex_1 (rfl : 1 + 3 = 4) (tgt := 9) (by decide) (fun hb => ?_) (fun hb => ?_)
  · have h := h.1 hb
    exact b9 _ _ _ h hl hR
  · have h := h.2 hb
    refine hp_iload_n E hl 0 rfl 0 rfl dJ5_checkIndex_4 (rfl : 4 + 1 = 5) ?_
    refine hp_iload_n E hl 1 rfl 1 rfl dJ5_checkIndex_5 (rfl : 5 + 1 = 6) ?_
    refine hp_icmp_lt E dJ5_checkIndex_6 (rfl : 6 + 3 = 9) (tgt := 16) (by decide) (fun hb => ?_) (fun hb => ?_)
    · have h := h.1 hb
      refine hp_iload_n E hl 0 rfl 0 rfl dJ5_checkIndex_16 (rfl : 16 + 1 = 17) ?_
      exact hp_iret E hR ⟨rfl, h⟩ (Nat.le_of_ble_eq_true rfl) (Nat.le_of_ble_eq_true rfl) dJ5_checkIndex_17
    · have h := h.2 hb
      exact b9 _ _ _ h hl hR
def wp_J12_checkIndex (a0 : Int32) (a1 : Int32) (S : hp_St) (Q : Int32 → Prop) : Prop := wp_J5_checkIndex a0 a1 0 S (fun z1 => Q z1)
theorem nf_J12_checkIndex : hp_nf yJ12_checkIndex 2 = true := by decide +kernel
set_option maxHeartbeats 4000000 in
theorem m_J12_checkIndex {l : Launch} {B : Nat} {D : va_G} {s0 : State} {b0 : Nat} (G : hp_G l B D s0 b0) (a0 : Int32) (a1 : Int32) (Si : hp_St) (Q : Int32 → Prop) (h : wp_J12_checkIndex a0 a1 Si Q) : hp_M l B D s0 yJ12_checkIndex cJ12_checkIndex 2 (some .int) 3 192 0 0 [.int a0, .int a1] Si (hp_Qi B D s0 (fun r S' => S' = Si ∧ Q r)) := by
  refine hp_start G (by decide +kernel) rfl rfl (lv := [(0, .int a0), (1, .int a1)]) (by simp [lg_sl, hp_vc, hp_ci, hp_cj]) (by simp [lv_args, hp_vc, hp_ci, hp_cj]) ?_
  intro p e s m args below meth c E ls hl hR
  unfold wp_J12_checkIndex at h
  refine hp_iload_n E hl 0 rfl 0 rfl dJ12_checkIndex_0 (rfl : 0 + 1 = 1) ?_
  refine hp_iload_n E hl 1 rfl 1 rfl dJ12_checkIndex_1 (rfl : 1 + 1 = 2) ?_
  refine hp_null E dJ12_checkIndex_2 (rfl : 2 + 1 = 3) ?_
  refine hp_fi (hp_rS E hR hl (m_J5_checkIndex G _ _ _ _ _ h) q734 q445 q85 q446 nf_J5_checkIndex ⟨Nat.le_of_ble_eq_true rfl, Nat.le_of_ble_eq_true rfl⟩ (rest := []) rfl (Nat.le_of_ble_eq_true rfl) dJ12_checkIndex_3 ⟨Nat.le_of_ble_eq_true rfl, Nat.le_of_ble_eq_true rfl⟩) hR (rfl : 3 + 3 = 6) (fun z1 Sx H locs hq hR => ?_)
  obtain ⟨hSx, h⟩ := hq
  rw [hSx] at hR
  exact hp_iret E hR ⟨rfl, h⟩ (Nat.le_of_ble_eq_true rfl) (Nat.le_of_ble_eq_true rfl) dJ12_checkIndex_6
def wp_J2_elementData (o : Nat) (a1 : Int32) (S : hp_St) (Q : Nat → Prop) : Prop := (st_C S (st_R S o 1) = 54) ∧ (vp_in a1 (st_L S (st_R S o 1))) ∧ Q (st_R S (st_R S o 1) a1.toNatClampNeg)
theorem nf_J2_elementData : hp_nf yJ2_elementData 1 = true := by decide +kernel
set_option maxHeartbeats 4000000 in
theorem m_J2_elementData {l : Launch} {B : Nat} {D : va_G} {s0 : State} {b0 : Nat} (G : hp_G l B D s0 b0) (o : Nat) (a1 : Int32) (Si : hp_St) (Q : Nat → Prop) (hc0 : st_C Si o = 17) (h : wp_J2_elementData o a1 Si Q) : hp_M l B D s0 yJ2_elementData cJ2_elementData 2 (some (.object "java/lang/Object")) 2 128 0 0 [hp_v B o, .int a1] Si (hp_Qa B D s0 (fun r S' => S' = Si ∧ Q r)) := by
  refine hp_start G (by decide +kernel) rfl rfl (lv := [(0, hp_v B o), (1, .int a1)]) (by simp [lg_sl, hp_vc, hp_ci, hp_cj]) (by simp [lv_args, hp_vc, hp_ci, hp_cj]) ?_
  intro p e s m args below meth c E ls hl hR
  unfold wp_J2_elementData at h
  refine hp_aload_n E hl 0 rfl 0 rfl dJ2_elementData_0 (rfl : 0 + 1 = 1) ?_
  refine hp_getR E hR in_J2 hc0 rfl 1 (Nat.le_of_ble_eq_true rfl) rfl q171 (fun _ h => h) dJ2_elementData_1 (rfl : 1 + 3 = 4) ?_
  refine hp_iload_n E hl 1 rfl 1 rfl dJ2_elementData_4 (rfl : 4 + 1 = 5) ?_
  obtain ⟨hc1, h⟩ := h
  obtain ⟨hi2, h⟩ := h
  refine hp_aald E hR (Or.inl hc1) hi2 dJ2_elementData_5 (rfl : 5 + 1 = 6) ?_
  exact hp_aret E hR (Or.inl ⟨_, rfl⟩) ⟨rfl, h⟩ (Nat.le_of_ble_eq_true rfl) (Nat.le_of_ble_eq_true rfl) dJ2_elementData_6
def wp_J2_get (o : Nat) (a1 : Int32) (S : hp_St) (Q : Nat → Prop) : Prop := wp_J12_checkIndex a1 (st_I S o 2) S (fun z1 => wp_J2_elementData o a1 S (fun z2 => Q z2))
theorem nf_J2_get : hp_nf yJ2_get 1 = true := by decide +kernel
set_option maxHeartbeats 4000000 in
theorem m_J2_get {l : Launch} {B : Nat} {D : va_G} {s0 : State} {b0 : Nat} (G : hp_G l B D s0 b0) (o : Nat) (a1 : Int32) (Si : hp_St) (Q : Nat → Prop) (hc0 : st_C Si o = 17) (h : wp_J2_get o a1 Si Q) : hp_M l B D s0 yJ2_get cJ2_get 2 (some (.object "java/lang/Object")) 4 256 0 0 [hp_v B o, .int a1] Si (hp_Qa B D s0 (fun r S' => S' = Si ∧ Q r)) := by
  refine hp_start G (by decide +kernel) rfl rfl (lv := [(0, hp_v B o), (1, .int a1)]) (by simp [lg_sl, hp_vc, hp_ci, hp_cj]) (by simp [lv_args, hp_vc, hp_ci, hp_cj]) ?_
  intro p e s m args below meth c E ls hl hR
  unfold wp_J2_get at h
  refine hp_iload_n E hl 1 rfl 1 rfl dJ2_get_0 (rfl : 0 + 1 = 1) ?_
  refine hp_aload_n E hl 0 rfl 0 rfl dJ2_get_1 (rfl : 1 + 1 = 2) ?_
  refine hp_getI E hR in_J2 hc0 rfl 2 (Nat.le_of_ble_eq_true rfl) rfl q172 (fun _ h => h) dJ2_get_2 (rfl : 2 + 3 = 5) ?_
  refine hp_fi (hp_rS E hR hl (m_J12_checkIndex G _ _ _ _ h) q731 q732 q96 q733 nf_J12_checkIndex ⟨Nat.le_of_ble_eq_true rfl, Nat.le_of_ble_eq_true rfl⟩ (rest := []) rfl (Nat.le_of_ble_eq_true rfl) dJ2_get_5 ⟨Nat.le_of_ble_eq_true rfl, Nat.le_of_ble_eq_true rfl⟩) hR (rfl : 5 + 3 = 8) (fun z1 Sx H locs hq hR => ?_)
  obtain ⟨hSx, h⟩ := hq
  rw [hSx] at hR
  refine hp_pop E rfl dJ2_get_8 (rfl : 8 + 1 = 9) ?_
  refine hp_aload_n E hl 0 rfl 0 rfl dJ2_get_9 (rfl : 9 + 1 = 10) ?_
  refine hp_iload_n E hl 1 rfl 1 rfl dJ2_get_10 (rfl : 10 + 1 = 11) ?_
  refine hp_fa (hp_rV E hR hl (m_J2_elementData G _ _ _ _ hc0 h) hc0 (ci := 16) rfl rfl q735 q736 q737 q78 q738 nf_J2_elementData ⟨Nat.le_of_ble_eq_true rfl, Nat.le_of_ble_eq_true rfl⟩ (rest := []) rfl (Nat.le_of_ble_eq_true rfl) dJ2_get_11 ⟨Nat.le_of_ble_eq_true rfl, Nat.le_of_ble_eq_true rfl⟩) hR (rfl : 11 + 3 = 14) (fun z2 Sx H locs hq hR => ?_)
  obtain ⟨hSx, h⟩ := hq
  rw [hSx] at hR
  exact hp_aret E hR (Or.inl ⟨_, rfl⟩) ⟨rfl, h⟩ (Nat.le_of_ble_eq_true rfl) (Nat.le_of_ble_eq_true rfl) dJ2_get_14
def wp_X2_init (o : Nat) (a1 : Nat) (S : hp_St) (Q : hp_St → Prop) : Prop := (∀ S1, S1 = st_pR S o 7 a1 → Q S1)
theorem nf_X2_init : hp_nf yX2_init 1 = true := by decide +kernel
set_option maxHeartbeats 4000000 in
theorem m_X2_init {l : Launch} {B : Nat} {D : va_G} {s0 : State} {b0 : Nat} (G : hp_G l B D s0 b0) (o : Nat) (a1 : Nat) (Si : hp_St) (Q : hp_St → Prop) (hc0 : st_C Si o = 2) (h : wp_X2_init o a1 Si Q) : hp_M l B D s0 yX2_init cX2_init 2 none 2 128 0 0 [hp_v B o, hp_v B a1] Si (hp_Qv B D s0 (fun S' => hp_mono Si S' ∧ Q S')) := by
  refine hp_start G (by decide +kernel) rfl rfl (lv := [(0, hp_v B o), (1, hp_v B a1)]) (by simp [lg_sl, hp_vc, hp_ci, hp_cj]) (by simp [lv_args, hp_vc, hp_ci, hp_cj]) ?_
  intro p e s m args below meth c E ls hl hR
  have hm : hp_mono Si Si := hp_mono.rf
  unfold wp_X2_init at h
  refine hp_aload_n E hl 0 rfl 0 rfl dX2_init_0 (rfl : 0 + 1 = 1) ?_
  refine hp_aload_n E hl 1 rfl 1 rfl dX2_init_1 (rfl : 1 + 1 = 2) ?_
  refine hx_putR E hR in_X2 tyX2 tyX2_ok nmX2 hc0 rfl 7 (Nat.le_of_ble_eq_true rfl) rfl q130 (fun _ h => h) (Or.inr ⟨E.nmm, rfl⟩) rfl dX2_init_2 (rfl : 2 + 3 = 5) (fun S1 H locs e3 hm2 hR => ?_)
  have h := h S1 e3
  have hm := hp_mono.tr hm hm2
  refine hp_aload_n E hl 0 rfl 0 rfl dX2_init_5 (rfl : 5 + 1 = 6) ?_
  refine hp_obj E hl (hp_ne hR (hp_mono.c hm hc0)) q122 q115 q116 dX2_init_6 (rfl : 6 + 3 = 9) (Nat.le_of_ble_eq_true rfl) (Nat.le_of_ble_eq_true rfl) (Nat.le_of_ble_eq_true rfl) ?_
  exact hp_vret E hR ⟨hm, h⟩ (Nat.le_of_ble_eq_true rfl) (Nat.le_of_ble_eq_true rfl) dX2_init_9
def wp_X3_init (o : Nat) (S : hp_St) (Q : hp_St → Prop) : Prop := (∀ n4 S1, n4 = st_Z S → S1 = st_nA S 17 0 → hp_fr S n4 → wp_J2_init n4 (1 : Int32) S1 (fun S8 => hp_mono S1 S8 → (∀ S10, S10 = st_pR S8 o 0 n4 → (∀ S13, S13 = st_pI S10 o 1 (4 : Int32) → (∀ S16, S16 = st_pI S13 o 3 (20 : Int32) → (∀ S19, S19 = st_pI S16 o 4 (3 : Int32) → Q S19))))))
theorem nf_X3_init : hp_nf yX3_init 0 = true := by decide +kernel
set_option maxHeartbeats 4000000 in
theorem m_X3_init {l : Launch} {B : Nat} {D : va_G} {s0 : State} {b0 : Nat} (G : hp_G l B D s0 b0) (o : Nat) (Si : hp_St) (Q : hp_St → Prop) (hc0 : st_C Si o = 3) (h : wp_X3_init o Si Q) : hp_M l B D s0 yX3_init cX3_init 1 none 5 320 2 67 [hp_v B o] Si (hp_Qv B D s0 (fun S' => hp_mono Si S' ∧ Q S')) := by
  refine hp_start G (by decide +kernel) rfl rfl (lv := [(0, hp_v B o)]) (by simp [lg_sl, hp_vc, hp_ci, hp_cj]) (by simp [lv_args, hp_vc, hp_ci, hp_cj]) ?_
  intro p e s m args below meth c E ls hl hR
  have hm : hp_mono Si Si := hp_mono.rf
  unfold wp_X3_init at h
  refine hp_aload_n E hl 0 rfl 0 rfl dX3_init_0 (rfl : 0 + 1 = 1) ?_
  refine hp_obj E hl (hp_ne hR hc0) q154 q115 q116 dX3_init_1 (rfl : 1 + 3 = 4) (Nat.le_of_ble_eq_true rfl) (Nat.le_of_ble_eq_true rfl) (Nat.le_of_ble_eq_true rfl) ?_
  refine hp_aload_n E hl 0 rfl 0 rfl dX3_init_4 (rfl : 4 + 1 = 5) ?_
  refine hx_new E hR in_J2 tyJ2 tyJ2_ok (ci := 16) rfl hd_J2 q155 q156 q78 (Nat.le_of_ble_eq_true rfl) (Nat.le_of_ble_eq_true rfl) dX3_init_5 (rfl : 5 + 3 = 8) (fun n4 S1 H e5 e3 hf6 hm2 hc7 hR => ?_)
  have h := h n4 S1 e5 e3 hf6
  have hm := hp_mono.tr hm hm2
  refine hp_dup E hp_vc dX3_init_8 (rfl : 8 + 1 = 9) ?_
  refine hp_iconst E (1 : Int32) (by decide) dX3_init_9 (rfl : 9 + 1 = 10) ?_
  refine hp_fv (hp_rI E hR hl (hp_ne hR hc7) (m_J2_init G _ _ _ _ hc7 h) rfl q157 q158 q78 q159 nf_J2_init ⟨Nat.le_of_ble_eq_true rfl, Nat.le_of_ble_eq_true rfl⟩ (rest := [hp_v B n4, hp_v B o]) rfl (Nat.le_of_ble_eq_true rfl) dX3_init_10 ⟨Nat.le_of_ble_eq_true rfl, Nat.le_of_ble_eq_true rfl⟩) hR (rfl : 10 + 3 = 13) (fun S8 H locs hq hR => ?_)
  obtain ⟨hm9, h⟩ := hq
  have h := h hm9
  have hm := hp_mono.tr hm hm9
  refine hx_putR E hR in_X3 tyX3 tyX3_ok nmX3 (hp_mono.c hm hc0) rfl 0 (Nat.le_of_ble_eq_true rfl) rfl q183 (fun _ h => h) (Or.inr ⟨E.nmm, rfl⟩) rfl dX3_init_13 (rfl : 13 + 3 = 16) (fun S10 H locs e12 hm11 hR => ?_)
  have h := h S10 e12
  have hm := hp_mono.tr hm hm11
  refine hp_aload_n E hl 0 rfl 0 rfl dX3_init_16 (rfl : 16 + 1 = 17) ?_
  refine hp_iconst E (4 : Int32) (by decide) dX3_init_17 (rfl : 17 + 1 = 18) ?_
  refine hx_putI E hR in_X3 tyX3 tyX3_ok nmX3 (hp_mono.c hm hc0) rfl 1 (Nat.le_of_ble_eq_true rfl) rfl q186 (fun _ h => h) (Or.inl rfl) (Or.inl rfl) dX3_init_18 (rfl : 18 + 3 = 21) (fun S13 H locs e15 hm14 hR => ?_)
  have h := h S13 e15
  have hm := hp_mono.tr hm hm14
  refine hp_aload_n E hl 0 rfl 0 rfl dX3_init_21 (rfl : 21 + 1 = 22) ?_
  refine hp_bipush E (20 : Int32) (by decide) dX3_init_22 (rfl : 22 + 2 = 24) ?_
  refine hx_putI E hR in_X3 tyX3 tyX3_ok nmX3 (hp_mono.c hm hc0) rfl 3 (Nat.le_of_ble_eq_true rfl) rfl q192 (fun _ h => h) (Or.inl rfl) (Or.inl rfl) dX3_init_24 (rfl : 24 + 3 = 27) (fun S16 H locs e18 hm17 hR => ?_)
  have h := h S16 e18
  have hm := hp_mono.tr hm hm17
  refine hp_aload_n E hl 0 rfl 0 rfl dX3_init_27 (rfl : 27 + 1 = 28) ?_
  refine hp_iconst E (3 : Int32) (by decide) dX3_init_28 (rfl : 28 + 1 = 29) ?_
  refine hx_putI E hR in_X3 tyX3 tyX3_ok nmX3 (hp_mono.c hm hc0) rfl 4 (Nat.le_of_ble_eq_true rfl) rfl q195 (fun _ h => h) (Or.inl rfl) (Or.inl rfl) dX3_init_29 (rfl : 29 + 3 = 32) (fun S19 H locs e21 hm20 hR => ?_)
  have h := h S19 e21
  have hm := hp_mono.tr hm hm20
  exact hp_vret E hR ⟨hm, h⟩ (Nat.le_of_ble_eq_true rfl) (Nat.le_of_ble_eq_true rfl) dX3_init_32
def wp_X4_init (o : Nat) (a1 : Nat) (S : hp_St) (Q : hp_St → Prop) : Prop := (∀ S1, S1 = st_pR S o 4 a1 → (∀ n7 S4, n7 = st_Z S1 → S4 = st_nA S1 50 12 → hp_fr S1 n7 → (∀ S11, S11 = st_pR S4 o 0 n7 → (∀ n17 S14, n17 = st_Z S11 → S14 = st_n2 S11 56 51 12 80 → hp_fr S11 n17 → (∀ S21, S21 = st_pR S14 o 1 n17 → (∀ n27 S24, n27 = st_Z S21 → S24 = st_nA S21 51 60 → hp_fr S21 n27 → (∀ S31, S31 = st_pR S24 o 2 n27 → Q S31)))))))
theorem nf_X4_init : hp_nf yX4_init 1 = true := by decide +kernel
set_option maxHeartbeats 4000000 in
theorem m_X4_init {l : Launch} {B : Nat} {D : va_G} {s0 : State} {b0 : Nat} (G : hp_G l B D s0 b0) (o : Nat) (a1 : Nat) (Si : hp_St) (Q : hp_St → Prop) (hc0 : st_C Si o = 4) (h : wp_X4_init o a1 Si Q) : hp_M l B D s0 yX4_init cX4_init 2 none 2 128 15 1044 [hp_v B o, hp_v B a1] Si (hp_Qv B D s0 (fun S' => hp_mono Si S' ∧ Q S')) := by
  refine hp_start G (by decide +kernel) rfl rfl (lv := [(0, hp_v B o), (1, hp_v B a1)]) (by simp [lg_sl, hp_vc, hp_ci, hp_cj]) (by simp [lv_args, hp_vc, hp_ci, hp_cj]) ?_
  intro p e s m args below meth c E ls hl hR
  have hm : hp_mono Si Si := hp_mono.rf
  unfold wp_X4_init at h
  refine hp_aload_n E hl 0 rfl 0 rfl dX4_init_0 (rfl : 0 + 1 = 1) ?_
  refine hp_aload_n E hl 1 rfl 1 rfl dX4_init_1 (rfl : 1 + 1 = 2) ?_
  refine hx_putR E hR in_X4 tyX4 tyX4_ok nmX4 hc0 rfl 4 (Nat.le_of_ble_eq_true rfl) rfl q237 (fun _ h => h) (Or.inr ⟨E.nmm, rfl⟩) rfl dX4_init_2 (rfl : 2 + 3 = 5) (fun S1 H locs e3 hm2 hR => ?_)
  have h := h S1 e3
  have hm := hp_mono.tr hm hm2
  refine hp_aload_n E hl 0 rfl 0 rfl dX4_init_5 (rfl : 5 + 1 = 6) ?_
  refine hp_obj E hl (hp_ne hR (hp_mono.c hm hc0)) q223 q115 q116 dX4_init_6 (rfl : 6 + 3 = 9) (Nat.le_of_ble_eq_true rfl) (Nat.le_of_ble_eq_true rfl) (Nat.le_of_ble_eq_true rfl) ?_
  refine hp_aload_n E hl 0 rfl 0 rfl dX4_init_9 (rfl : 9 + 1 = 10) ?_
  refine hp_bipush E (12 : Int32) (by decide) dX4_init_10 (rfl : 10 + 2 = 12) ?_
  refine hx_newa E hR (atype := .int) (ty := .int) rfl 50 0 rfl (Or.inl ⟨rfl, rfl⟩) q249 (N := 12) (by decide) (by decide) (Nat.le_of_ble_eq_true rfl) (Nat.le_of_ble_eq_true rfl) (Nat.le_of_ble_eq_true rfl) dX4_init_12 (rfl : 12 + 2 = 14) (fun n7 S4 H e8 e6 hf9 hm5 hc10 hR => ?_)
  have h := h n7 S4 e8 e6 hf9
  have hm := hp_mono.tr hm hm5
  refine hx_putR E hR in_X4 tyX4 tyX4_ok nmX4 (hp_mono.c hm hc0) rfl 0 (Nat.le_of_ble_eq_true rfl) rfl q226 (fun _ h => h) (Or.inr ⟨E.nmm, rfl⟩) rfl dX4_init_14 (rfl : 14 + 3 = 17) (fun S11 H locs e13 hm12 hR => ?_)
  have h := h S11 e13
  have hm := hp_mono.tr hm hm12
  refine hp_aload_n E hl 0 rfl 0 rfl dX4_init_17 (rfl : 17 + 1 = 18) ?_
  refine hp_bipush E (12 : Int32) (by decide) dX4_init_18 (rfl : 18 + 2 = 20) ?_
  refine hp_bipush E (80 : Int32) (by decide) dX4_init_20 (rfl : 20 + 2 = 22) ?_
  refine hx_multi E hR hp_mk_boolean rfl q224 q225 q250 (n := 12) (k := 80) (by decide) (by decide) (Nat.le_of_ble_eq_true rfl) (Nat.le_of_ble_eq_true rfl) (Nat.le_of_ble_eq_true rfl) (Nat.le_of_ble_eq_true rfl) (Nat.le_of_ble_eq_true rfl) dX4_init_22 (rfl : 22 + 4 = 26) (fun n17 S14 H e18 e16 hf19 hm15 hc20 hR => ?_)
  have h := h n17 S14 e18 e16 hf19
  have hm := hp_mono.tr hm hm15
  refine hx_putR E hR in_X4 tyX4 tyX4_ok nmX4 (hp_mono.c hm hc0) rfl 1 (Nat.le_of_ble_eq_true rfl) rfl q232 (fun _ h => h) (Or.inr ⟨E.nmm, rfl⟩) rfl dX4_init_26 (rfl : 26 + 3 = 29) (fun S21 H locs e23 hm22 hR => ?_)
  have h := h S21 e23
  have hm := hp_mono.tr hm hm22
  refine hp_aload_n E hl 0 rfl 0 rfl dX4_init_29 (rfl : 29 + 1 = 30) ?_
  refine hp_bipush E (60 : Int32) (by decide) dX4_init_30 (rfl : 30 + 2 = 32) ?_
  refine hx_newa E hR (atype := .boolean) (ty := .boolean) rfl 51 1 rfl (Or.inr (Or.inl ⟨rfl, rfl⟩)) q250 (N := 60) (by decide) (by decide) (Nat.le_of_ble_eq_true rfl) (Nat.le_of_ble_eq_true rfl) (Nat.le_of_ble_eq_true rfl) dX4_init_32 (rfl : 32 + 2 = 34) (fun n27 S24 H e28 e26 hf29 hm25 hc30 hR => ?_)
  have h := h n27 S24 e28 e26 hf29
  have hm := hp_mono.tr hm hm25
  refine hx_putR E hR in_X4 tyX4 tyX4_ok nmX4 (hp_mono.c hm hc0) rfl 2 (Nat.le_of_ble_eq_true rfl) rfl q234 (fun _ h => h) (Or.inr ⟨E.nmm, rfl⟩) rfl dX4_init_34 (rfl : 34 + 3 = 37) (fun S31 H locs e33 hm32 hR => ?_)
  have h := h S31 e33
  have hm := hp_mono.tr hm hm32
  exact hp_vret E hR ⟨hm, h⟩ (Nat.le_of_ble_eq_true rfl) (Nat.le_of_ble_eq_true rfl) dX4_init_37
def wp_X5_init (o : Nat) (a1 : Nat) (S : hp_St) (Q : hp_St → Prop) : Prop := (∀ S1, S1 = st_pR S o 2 a1 → (∀ n7 S4, n7 = st_Z S1 → S4 = st_n2 S1 55 50 4 10 → hp_fr S1 n7 → (∀ S11, S11 = st_pR S4 o 0 n7 → (∀ n17 S14, n17 = st_Z S11 → S14 = st_n2 S11 55 50 4 10 → hp_fr S11 n17 → (∀ S21, S21 = st_pR S14 o 1 n17 → Q S21)))))
theorem nf_X5_init : hp_nf yX5_init 1 = true := by decide +kernel
set_option maxHeartbeats 4000000 in
theorem m_X5_init {l : Launch} {B : Nat} {D : va_G} {s0 : State} {b0 : Nat} (G : hp_G l B D s0 b0) (o : Nat) (a1 : Nat) (Si : hp_St) (Q : hp_St → Prop) (hc0 : st_C Si o = 5) (h : wp_X5_init o a1 Si Q) : hp_M l B D s0 yX5_init cX5_init 2 none 2 128 10 88 [hp_v B o, hp_v B a1] Si (hp_Qv B D s0 (fun S' => hp_mono Si S' ∧ Q S')) := by
  refine hp_start G (by decide +kernel) rfl rfl (lv := [(0, hp_v B o), (1, hp_v B a1)]) (by simp [lg_sl, hp_vc, hp_ci, hp_cj]) (by simp [lv_args, hp_vc, hp_ci, hp_cj]) ?_
  intro p e s m args below meth c E ls hl hR
  have hm : hp_mono Si Si := hp_mono.rf
  unfold wp_X5_init at h
  refine hp_aload_n E hl 0 rfl 0 rfl dX5_init_0 (rfl : 0 + 1 = 1) ?_
  refine hp_aload_n E hl 1 rfl 1 rfl dX5_init_1 (rfl : 1 + 1 = 2) ?_
  refine hx_putR E hR in_X5 tyX5 tyX5_ok nmX5 hc0 rfl 2 (Nat.le_of_ble_eq_true rfl) rfl q262 (fun _ h => h) (Or.inr ⟨E.nmm, rfl⟩) rfl dX5_init_2 (rfl : 2 + 3 = 5) (fun S1 H locs e3 hm2 hR => ?_)
  have h := h S1 e3
  have hm := hp_mono.tr hm hm2
  refine hp_aload_n E hl 0 rfl 0 rfl dX5_init_5 (rfl : 5 + 1 = 6) ?_
  refine hp_obj E hl (hp_ne hR (hp_mono.c hm hc0)) q256 q115 q116 dX5_init_6 (rfl : 6 + 3 = 9) (Nat.le_of_ble_eq_true rfl) (Nat.le_of_ble_eq_true rfl) (Nat.le_of_ble_eq_true rfl) ?_
  refine hp_aload_n E hl 0 rfl 0 rfl dX5_init_9 (rfl : 9 + 1 = 10) ?_
  refine hp_iconst E (4 : Int32) (by decide) dX5_init_10 (rfl : 10 + 1 = 11) ?_
  refine hp_bipush E (10 : Int32) (by decide) dX5_init_11 (rfl : 11 + 2 = 13) ?_
  refine hx_multi E hR hp_mk_int rfl q257 q217 q249 (n := 4) (k := 10) (by decide) (by decide) (Nat.le_of_ble_eq_true rfl) (Nat.le_of_ble_eq_true rfl) (Nat.le_of_ble_eq_true rfl) (Nat.le_of_ble_eq_true rfl) (Nat.le_of_ble_eq_true rfl) dX5_init_13 (rfl : 13 + 4 = 17) (fun n7 S4 H e8 e6 hf9 hm5 hc10 hR => ?_)
  have h := h n7 S4 e8 e6 hf9
  have hm := hp_mono.tr hm hm5
  refine hx_putR E hR in_X5 tyX5 tyX5_ok nmX5 (hp_mono.c hm hc0) rfl 0 (Nat.le_of_ble_eq_true rfl) rfl q258 (fun _ h => h) (Or.inr ⟨E.nmm, rfl⟩) rfl dX5_init_17 (rfl : 17 + 3 = 20) (fun S11 H locs e13 hm12 hR => ?_)
  have h := h S11 e13
  have hm := hp_mono.tr hm hm12
  refine hp_aload_n E hl 0 rfl 0 rfl dX5_init_20 (rfl : 20 + 1 = 21) ?_
  refine hp_iconst E (4 : Int32) (by decide) dX5_init_21 (rfl : 21 + 1 = 22) ?_
  refine hp_bipush E (10 : Int32) (by decide) dX5_init_22 (rfl : 22 + 2 = 24) ?_
  refine hx_multi E hR hp_mk_int rfl q257 q217 q249 (n := 4) (k := 10) (by decide) (by decide) (Nat.le_of_ble_eq_true rfl) (Nat.le_of_ble_eq_true rfl) (Nat.le_of_ble_eq_true rfl) (Nat.le_of_ble_eq_true rfl) (Nat.le_of_ble_eq_true rfl) dX5_init_24 (rfl : 24 + 4 = 28) (fun n17 S14 H e18 e16 hf19 hm15 hc20 hR => ?_)
  have h := h n17 S14 e18 e16 hf19
  have hm := hp_mono.tr hm hm15
  refine hx_putR E hR in_X5 tyX5 tyX5_ok nmX5 (hp_mono.c hm hc0) rfl 1 (Nat.le_of_ble_eq_true rfl) rfl q260 (fun _ h => h) (Or.inr ⟨E.nmm, rfl⟩) rfl dX5_init_28 (rfl : 28 + 3 = 31) (fun S21 H locs e23 hm22 hR => ?_)
  have h := h S21 e23
  have hm := hp_mono.tr hm hm22
  exact hp_vret E hR ⟨hm, h⟩ (Nat.le_of_ble_eq_true rfl) (Nat.le_of_ble_eq_true rfl) dX5_init_31
def wp_X6_init (o : Nat) (a1 : Nat) (S : hp_St) (Q : hp_St → Prop) : Prop := (∀ S1, S1 = st_pR S o 10 a1 → (∀ n7 S4, n7 = st_Z S1 → S4 = st_nA S1 50 12 → hp_fr S1 n7 → (∀ S11, S11 = st_pR S4 o 0 n7 → (∀ n17 S14, n17 = st_Z S11 → S14 = st_nA S11 50 12 → hp_fr S11 n17 → (∀ S21, S21 = st_pR S14 o 1 n17 → (∀ n27 S24, n27 = st_Z S21 → S24 = st_nA S21 50 12 → hp_fr S21 n27 → (∀ S31, S31 = st_pR S24 o 2 n27 → (∀ n37 S34, n37 = st_Z S31 → S34 = st_nA S31 50 12 → hp_fr S31 n37 → (∀ S41, S41 = st_pR S34 o 3 n37 → (∀ n47 S44, n47 = st_Z S41 → S44 = st_nA S41 50 12 → hp_fr S41 n47 → (∀ S51, S51 = st_pR S44 o 4 n47 → Q S51)))))))))))
theorem nf_X6_init : hp_nf yX6_init 1 = true := by decide +kernel
set_option maxHeartbeats 4000000 in
theorem m_X6_init {l : Launch} {B : Nat} {D : va_G} {s0 : State} {b0 : Nat} (G : hp_G l B D s0 b0) (o : Nat) (a1 : Nat) (Si : hp_St) (Q : hp_St → Prop) (hc0 : st_C Si o = 6) (h : wp_X6_init o a1 Si Q) : hp_M l B D s0 yX6_init cX6_init 2 none 2 128 5 60 [hp_v B o, hp_v B a1] Si (hp_Qv B D s0 (fun S' => hp_mono Si S' ∧ Q S')) := by
  refine hp_start G (by decide +kernel) rfl rfl (lv := [(0, hp_v B o), (1, hp_v B a1)]) (by simp [lg_sl, hp_vc, hp_ci, hp_cj]) (by simp [lv_args, hp_vc, hp_ci, hp_cj]) ?_
  intro p e s m args below meth c E ls hl hR
  have hm : hp_mono Si Si := hp_mono.rf
  unfold wp_X6_init at h
  refine hp_aload_n E hl 0 rfl 0 rfl dX6_init_0 (rfl : 0 + 1 = 1) ?_
  refine hp_aload_n E hl 1 rfl 1 rfl dX6_init_1 (rfl : 1 + 1 = 2) ?_
  refine hx_putR E hR in_X6 tyX6 tyX6_ok nmX6 hc0 rfl 10 (Nat.le_of_ble_eq_true rfl) rfl q290 (fun _ h => h) (Or.inr ⟨E.nmm, rfl⟩) rfl dX6_init_2 (rfl : 2 + 3 = 5) (fun S1 H locs e3 hm2 hR => ?_)
  have h := h S1 e3
  have hm := hp_mono.tr hm hm2
  refine hp_aload_n E hl 0 rfl 0 rfl dX6_init_5 (rfl : 5 + 1 = 6) ?_
  refine hp_obj E hl (hp_ne hR (hp_mono.c hm hc0)) q275 q115 q116 dX6_init_6 (rfl : 6 + 3 = 9) (Nat.le_of_ble_eq_true rfl) (Nat.le_of_ble_eq_true rfl) (Nat.le_of_ble_eq_true rfl) ?_
  refine hp_aload_n E hl 0 rfl 0 rfl dX6_init_9 (rfl : 9 + 1 = 10) ?_
  refine hp_bipush E (12 : Int32) (by decide) dX6_init_10 (rfl : 10 + 2 = 12) ?_
  refine hx_newa E hR (atype := .int) (ty := .int) rfl 50 0 rfl (Or.inl ⟨rfl, rfl⟩) q249 (N := 12) (by decide) (by decide) (Nat.le_of_ble_eq_true rfl) (Nat.le_of_ble_eq_true rfl) (Nat.le_of_ble_eq_true rfl) dX6_init_12 (rfl : 12 + 2 = 14) (fun n7 S4 H e8 e6 hf9 hm5 hc10 hR => ?_)
  have h := h n7 S4 e8 e6 hf9
  have hm := hp_mono.tr hm hm5
  refine hx_putR E hR in_X6 tyX6 tyX6_ok nmX6 (hp_mono.c hm hc0) rfl 0 (Nat.le_of_ble_eq_true rfl) rfl q276 (fun _ h => h) (Or.inr ⟨E.nmm, rfl⟩) rfl dX6_init_14 (rfl : 14 + 3 = 17) (fun S11 H locs e13 hm12 hR => ?_)
  have h := h S11 e13
  have hm := hp_mono.tr hm hm12
  refine hp_aload_n E hl 0 rfl 0 rfl dX6_init_17 (rfl : 17 + 1 = 18) ?_
  refine hp_bipush E (12 : Int32) (by decide) dX6_init_18 (rfl : 18 + 2 = 20) ?_
  refine hx_newa E hR (atype := .int) (ty := .int) rfl 50 0 rfl (Or.inl ⟨rfl, rfl⟩) q249 (N := 12) (by decide) (by decide) (Nat.le_of_ble_eq_true rfl) (Nat.le_of_ble_eq_true rfl) (Nat.le_of_ble_eq_true rfl) dX6_init_20 (rfl : 20 + 2 = 22) (fun n17 S14 H e18 e16 hf19 hm15 hc20 hR => ?_)
  have h := h n17 S14 e18 e16 hf19
  have hm := hp_mono.tr hm hm15
  refine hx_putR E hR in_X6 tyX6 tyX6_ok nmX6 (hp_mono.c hm hc0) rfl 1 (Nat.le_of_ble_eq_true rfl) rfl q278 (fun _ h => h) (Or.inr ⟨E.nmm, rfl⟩) rfl dX6_init_22 (rfl : 22 + 3 = 25) (fun S21 H locs e23 hm22 hR => ?_)
  have h := h S21 e23
  have hm := hp_mono.tr hm hm22
  refine hp_aload_n E hl 0 rfl 0 rfl dX6_init_25 (rfl : 25 + 1 = 26) ?_
  refine hp_bipush E (12 : Int32) (by decide) dX6_init_26 (rfl : 26 + 2 = 28) ?_
  refine hx_newa E hR (atype := .int) (ty := .int) rfl 50 0 rfl (Or.inl ⟨rfl, rfl⟩) q249 (N := 12) (by decide) (by decide) (Nat.le_of_ble_eq_true rfl) (Nat.le_of_ble_eq_true rfl) (Nat.le_of_ble_eq_true rfl) dX6_init_28 (rfl : 28 + 2 = 30) (fun n27 S24 H e28 e26 hf29 hm25 hc30 hR => ?_)
  have h := h n27 S24 e28 e26 hf29
  have hm := hp_mono.tr hm hm25
  refine hx_putR E hR in_X6 tyX6 tyX6_ok nmX6 (hp_mono.c hm hc0) rfl 2 (Nat.le_of_ble_eq_true rfl) rfl q279 (fun _ h => h) (Or.inr ⟨E.nmm, rfl⟩) rfl dX6_init_30 (rfl : 30 + 3 = 33) (fun S31 H locs e33 hm32 hR => ?_)
  have h := h S31 e33
  have hm := hp_mono.tr hm hm32
  refine hp_aload_n E hl 0 rfl 0 rfl dX6_init_33 (rfl : 33 + 1 = 34) ?_
  refine hp_bipush E (12 : Int32) (by decide) dX6_init_34 (rfl : 34 + 2 = 36) ?_
  refine hx_newa E hR (atype := .int) (ty := .int) rfl 50 0 rfl (Or.inl ⟨rfl, rfl⟩) q249 (N := 12) (by decide) (by decide) (Nat.le_of_ble_eq_true rfl) (Nat.le_of_ble_eq_true rfl) (Nat.le_of_ble_eq_true rfl) dX6_init_36 (rfl : 36 + 2 = 38) (fun n37 S34 H e38 e36 hf39 hm35 hc40 hR => ?_)
  have h := h n37 S34 e38 e36 hf39
  have hm := hp_mono.tr hm hm35
  refine hx_putR E hR in_X6 tyX6 tyX6_ok nmX6 (hp_mono.c hm hc0) rfl 3 (Nat.le_of_ble_eq_true rfl) rfl q280 (fun _ h => h) (Or.inr ⟨E.nmm, rfl⟩) rfl dX6_init_38 (rfl : 38 + 3 = 41) (fun S41 H locs e43 hm42 hR => ?_)
  have h := h S41 e43
  have hm := hp_mono.tr hm hm42
  refine hp_aload_n E hl 0 rfl 0 rfl dX6_init_41 (rfl : 41 + 1 = 42) ?_
  refine hp_bipush E (12 : Int32) (by decide) dX6_init_42 (rfl : 42 + 2 = 44) ?_
  refine hx_newa E hR (atype := .int) (ty := .int) rfl 50 0 rfl (Or.inl ⟨rfl, rfl⟩) q249 (N := 12) (by decide) (by decide) (Nat.le_of_ble_eq_true rfl) (Nat.le_of_ble_eq_true rfl) (Nat.le_of_ble_eq_true rfl) dX6_init_44 (rfl : 44 + 2 = 46) (fun n47 S44 H e48 e46 hf49 hm45 hc50 hR => ?_)
  have h := h n47 S44 e48 e46 hf49
  have hm := hp_mono.tr hm hm45
  refine hx_putR E hR in_X6 tyX6 tyX6_ok nmX6 (hp_mono.c hm hc0) rfl 4 (Nat.le_of_ble_eq_true rfl) rfl q281 (fun _ h => h) (Or.inr ⟨E.nmm, rfl⟩) rfl dX6_init_46 (rfl : 46 + 3 = 49) (fun S51 H locs e53 hm52 hR => ?_)
  have h := h S51 e53
  have hm := hp_mono.tr hm hm52
  exact hp_vret E hR ⟨hm, h⟩ (Nat.le_of_ble_eq_true rfl) (Nat.le_of_ble_eq_true rfl) dX6_init_49
def wb_X1_init_170 (o : Nat) (r1 : Nat) (v2 : Int32) (v3 : Int32) (r4 : Nat) (v5 : Int32) (S : hp_St) (K157 : Int32 → hp_St → Prop) (K170 : Int32 → hp_St → Prop) (Q : hp_St → Prop) : Prop := (((v5 < (10 : Int32)) → (st_C S r4 = 50) ∧ (vp_in v5 (st_L S r4)) ∧ (∀ S17003, S17003 = st_pI S r4 v5.toNatClampNeg (900 : Int32) → K170 (v5 + (1 : Int32)) S17003)) ∧ ((¬ (v5 < (10 : Int32))) → K157 (v3 + (1 : Int32)) S))
def wl_X1_init_170 (o : Nat) (r1 : Nat) (v2 : Int32) (v3 : Int32) (r4 : Nat) (v5 : Int32) (S : hp_St) (K157 : Int32 → hp_St → Prop) (Q : hp_St → Prop) : Prop := ∃ (I : Int32 → hp_St → Prop) (μ : Int32 → hp_St → Nat), I v5 S ∧ ∀ (v5 : Int32) (S1 : hp_St), hp_mono S S1 → I v5 S1 → wb_X1_init_170 o r1 v2 v3 r4 v5 S1 K157 (fun v5' S2 => I v5' S2 ∧ μ v5' S2 < μ v5 S1) Q
def wb_X1_init_157 (o : Nat) (r1 : Nat) (v2 : Int32) (v3 : Int32) (S : hp_St) (K157 : Int32 → hp_St → Prop) (Q : hp_St → Prop) : Prop := (((v3 < v2) → (st_C S r1 = 55) ∧ (vp_in v3 (st_L S r1)) ∧ wl_X1_init_170 o r1 v2 v3 (st_R S r1 v3.toNatClampNeg) (0 : Int32) S K157 Q) ∧ ((¬ (v3 < v2)) → Q S))
def wl_X1_init_157 (o : Nat) (r1 : Nat) (v2 : Int32) (v3 : Int32) (S : hp_St) (Q : hp_St → Prop) : Prop := ∃ (I : Int32 → hp_St → Prop) (μ : Int32 → hp_St → Nat), I v3 S ∧ ∀ (v3 : Int32) (S1 : hp_St), hp_mono S S1 → I v3 S1 → wb_X1_init_157 o r1 v2 v3 S1 (fun v3' S2 => I v3' S2 ∧ μ v3' S2 < μ v3 S1) Q
def wp_X1_init (o : Nat) (S : hp_St) (Q : hp_St → Prop) : Prop := (∀ n4 S1, n4 = st_Z S → S1 = st_nA S 52 500 → hp_fr S n4 → (∀ S8, S8 = st_pR S1 o 0 n4 → (∀ S11, S11 = st_pI S8 o 3 (-1 : Int32) → (∀ n17 S14, n17 = st_Z S11 → S14 = st_nA S11 2 0 → hp_fr S11 n17 → wp_X2_init n17 o S14 (fun S21 => hp_mono S14 S21 → (∀ S23, S23 = st_pR S21 o 6 n17 → (∀ n29 S26, n29 = st_Z S23 → S26 = st_nA S23 3 0 → hp_fr S23 n29 → wp_X3_init n29 S26 (fun S33 => hp_mono S26 S33 → (∀ S35, S35 = st_pR S33 o 7 n29 → (∀ n41 S38, n41 = st_Z S35 → S38 = st_nA S35 17 0 → hp_fr S35 n41 → wp_J2_init n41 (12 : Int32) S38 (fun S45 => hp_mono S38 S45 → (∀ S47, S47 = st_pR S45 o 8 n41 → (∀ n53 S50, n53 = st_Z S47 → S50 = st_nA S47 17 0 → hp_fr S47 n53 → wp_J2_init n53 (16 : Int32) S50 (fun S57 => hp_mono S50 S57 → (∀ S59, S59 = st_pR S57 o 9 n53 → (∀ n65 S62, n65 = st_Z S59 → S62 = st_nA S59 17 0 → hp_fr S59 n65 → wp_J2_init n65 (60 : Int32) S62 (fun S69 => hp_mono S62 S69 → (∀ S71, S71 = st_pR S69 o 10 n65 → (∀ n77 S74, n77 = st_Z S71 → S74 = st_n2 S71 55 50 4 10 → hp_fr S71 n77 → (∀ S81, S81 = st_pR S74 o 11 n77 → (∀ n87 S84, n87 = st_Z S81 → S84 = st_n2 S81 55 50 8 80 → hp_fr S81 n87 → (∀ S91, S91 = st_pR S84 o 12 n87 → (∀ n97 S94, n97 = st_Z S91 → S94 = st_nA S91 4 0 → hp_fr S91 n97 → wp_X4_init n97 o S94 (fun S101 => hp_mono S94 S101 → (∀ S103, S103 = st_pR S101 o 13 n97 → (∀ n109 S106, n109 = st_Z S103 → S106 = st_nA S103 5 0 → hp_fr S103 n109 → wp_X5_init n109 o S106 (fun S113 => hp_mono S106 S113 → (∀ S115, S115 = st_pR S113 o 14 n109 → (∀ n121 S118, n121 = st_Z S115 → S118 = st_nA S115 6 0 → hp_fr S115 n121 → wp_X6_init n121 o S118 (fun S125 => hp_mono S118 S125 → (∀ S127, S127 = st_pR S125 o 15 n121 → (∀ n133 S130, n133 = st_Z S127 → S130 = st_nA S127 50 12 → hp_fr S127 n133 → (∀ S137, S137 = st_pR S130 o 16 n133 → (st_C S137 (st_R S137 o 11) = 55) ∧ wl_X1_init_157 o (st_R S137 o 11) (nI (st_L S137 (st_R S137 o 11))) (0 : Int32) S137 Q)))))))))))))))))))))))))))))))))
theorem nf_X1_init : hp_nf yX1_init 0 = true := by decide +kernel
set_option maxHeartbeats 4000000 in
theorem m_X1_init {l : Launch} {B : Nat} {D : va_G} {s0 : State} {b0 : Nat} (G : hp_G l B D s0 b0) (o : Nat) (Si : hp_St) (Q : hp_St → Prop) (hc0 : st_C Si o = 1) (h : wp_X1_init o Si Q) : hp_M l B D s0 yX1_init cX1_init 6 none 6 384 59 2697 [hp_v B o] Si (hp_Qv B D s0 (fun S' => hp_mono Si S' ∧ Q S')) := by
  refine hp_start G (by decide +kernel) rfl rfl (lv := [(0, hp_v B o)]) (by simp [lg_sl, hp_vc, hp_ci, hp_cj]) (by simp [lv_args, hp_vc, hp_ci, hp_cj]) ?_
  intro p e s m args below meth c E ls hl hR
  have hm : hp_mono Si Si := hp_mono.rf
  generalize hH : s.heap = H at hR ⊢
  generalize hLo : ([] : List Loc) = locs at hR ⊢
  have b157 : ∀ (r1 : Nat) (v2 : Int32) (v3 : Int32) (S : hp_St) (H : Heap) (locs : List Loc) (ls : Array Slot), wl_X1_init_157 o r1 v2 v3 S Q → lv_has ls 6 [(1, hp_v B r1), (2, .int v2), (3, .int v3)] → hp_S B D s0 S H locs → hp_mono Si S → W p l e ({ frames := 6, cells := 59, slots := 2697, locals := 384 } : Room) s m args below meth c H locs 59 2697 (MQ below (hp_Qv B D s0 (fun S' => hp_mono Si S' ∧ Q S')) args s 59 2697 (fun q => B < q)) (F0 m 157 ls []) := by
    intro r1 v2 v3 S H locs ls h hl hR hm
    obtain ⟨I157, μ157, hI, hst⟩ := h
    obtain ⟨Sa157, eSa157⟩ : ∃ x, x = S := ⟨_, rfl⟩
    subst eSa157
    have key157 : ∀ (N : Nat) (v3 : Int32) (Su157 : hp_St) (H : Heap) (locs : List Loc) (ls : Array Slot), μ157 v3 Su157 < N → I157 v3 Su157 → lv_has ls 6 [(1, hp_v B r1), (2, .int v2), (3, .int v3)] → hp_S B D s0 Su157 H locs → hp_mono Sa157 Su157 → W p l e ({ frames := 6, cells := 59, slots := 2697, locals := 384 } : Room) s m args below meth c H locs 59 2697 (MQ below (hp_Qv B D s0 (fun S' => hp_mono Si S' ∧ Q S')) args s 59 2697 (fun q => B < q)) (F0 m 157 ls []) := by
      intro N
      induction N with
      | zero =>
        intro v3 Su157 H locs ls hN
        exact absurd hN (Nat.not_lt_zero _)
      | succ N ih157 =>
        intro v3 Su157 H locs ls hN hI hl hR ms157
        have h := hst v3 Su157 ms157 hI
        have hm := hp_mono.tr hm ms157
        obtain ⟨K157, hKe157⟩ : ∃ K : Int32 → hp_St → Prop, K = (fun v3' Sk => I157 v3' Sk ∧ μ157 v3' Sk < μ157 v3 Su157) := ⟨_, rfl⟩
        rw [← hKe157] at h
        have hK157 : ∀ (v3' : Int32) (Sk : hp_St) (H : Heap) (locs : List Loc) (ls : Array Slot), K157 v3' Sk → lv_has ls 6 [(1, hp_v B r1), (2, .int v2), (3, .int (v3'))] → hp_S B D s0 Sk H locs → hp_mono Sa157 Sk → W p l e ({ frames := 6, cells := 59, slots := 2697, locals := 384 } : Room) s m args below meth c H locs 59 2697 (MQ below (hp_Qv B D s0 (fun S' => hp_mono Si S' ∧ Q S')) args s 59 2697 (fun q => B < q)) (F0 m 157 ls []) := by
          intro v3' Sk H locs ls hI hl hR ms
          rw [hKe157] at hI
          exact ih157 v3' Sk H locs ls (Nat.lt_of_lt_of_le hI.2 (Nat.le_of_lt_succ hN)) hI.1 hl hR ms
        have b170 : ∀ (v3 : Int32) (r4 : Nat) (v5 : Int32) (S : hp_St) (H : Heap) (locs : List Loc) (ls : Array Slot), wl_X1_init_170 o r1 v2 v3 r4 v5 S K157 Q → lv_has ls 6 [(1, hp_v B r1), (2, .int v2), (3, .int v3), (4, hp_v B r4), (5, .int v5)] → hp_S B D s0 S H locs → hp_mono Si S → hp_mono Sa157 S → W p l e ({ frames := 6, cells := 59, slots := 2697, locals := 384 } : Room) s m args below meth c H locs 59 2697 (MQ below (hp_Qv B D s0 (fun S' => hp_mono Si S' ∧ Q S')) args s 59 2697 (fun q => B < q)) (F0 m 170 ls []) := by
          intro v3 r4 v5 S H locs ls h hl hR hm ms157
          obtain ⟨I170, μ170, hI, hst⟩ := h
          obtain ⟨Sa170, eSa170⟩ : ∃ x, x = S := ⟨_, rfl⟩
          subst eSa170
          have key170 : ∀ (N : Nat) (v5 : Int32) (Su170 : hp_St) (H : Heap) (locs : List Loc) (ls : Array Slot), μ170 v5 Su170 < N → I170 v5 Su170 → lv_has ls 6 [(1, hp_v B r1), (2, .int v2), (3, .int v3), (4, hp_v B r4), (5, .int v5)] → hp_S B D s0 Su170 H locs → hp_mono Sa170 Su170 → W p l e ({ frames := 6, cells := 59, slots := 2697, locals := 384 } : Room) s m args below meth c H locs 59 2697 (MQ below (hp_Qv B D s0 (fun S' => hp_mono Si S' ∧ Q S')) args s 59 2697 (fun q => B < q)) (F0 m 170 ls []) := by
            intro N
            induction N with
            | zero =>
              intro v5 Su170 H locs ls hN
              exact absurd hN (Nat.not_lt_zero _)
            | succ N ih170 =>
              intro v5 Su170 H locs ls hN hI hl hR ms170
              have h := hst v5 Su170 ms170 hI
              have hm := hp_mono.tr hm ms170
              have ms157 := hp_mono.tr ms157 ms170
              obtain ⟨K170, hKe170⟩ : ∃ K : Int32 → hp_St → Prop, K = (fun v5' Sk => I170 v5' Sk ∧ μ170 v5' Sk < μ170 v5 Su170) := ⟨_, rfl⟩
              rw [← hKe170] at h
              have hK170 : ∀ (v5' : Int32) (Sk : hp_St) (H : Heap) (locs : List Loc) (ls : Array Slot), K170 v5' Sk → lv_has ls 6 [(1, hp_v B r1), (2, .int v2), (3, .int v3), (4, hp_v B r4), (5, .int (v5'))] → hp_S B D s0 Sk H locs → hp_mono Sa170 Sk → W p l e ({ frames := 6, cells := 59, slots := 2697, locals := 384 } : Room) s m args below meth c H locs 59 2697 (MQ below (hp_Qv B D s0 (fun S' => hp_mono Si S' ∧ Q S')) args s 59 2697 (fun q => B < q)) (F0 m 170 ls []) := by
                intro v5' Sk H locs ls hI hl hR ms
                rw [hKe170] at hI
                exact ih170 v5' Sk H locs ls (Nat.lt_of_lt_of_le hI.2 (Nat.le_of_lt_succ hN)) hI.1 hl hR ms
              unfold wb_X1_init_170 at h
              refine hp_iload E hl 4 rfl dX1_init_170 (rfl : 170 + 2 = 172) ?_
              refine hp_bipush E (10 : Int32) (by decide) dX1_init_172 (rfl : 172 + 2 = 174) ?_
              refine hp_icmp_ge E dX1_init_174 (rfl : 174 + 3 = 177) (tgt := 191) (by decide) (fun hb => ?_) (fun hb => ?_)
              · have h := h.1 hb
                refine hp_aload E hl 3 rfl dX1_init_177 (rfl : 177 + 2 = 179) ?_
                refine hp_iload E hl 4 rfl dX1_init_179 (rfl : 179 + 2 = 181) ?_
                refine hp_sipush E (900 : Int32) (by decide) dX1_init_181 (rfl : 181 + 3 = 184) ?_
                obtain ⟨hc17001, h⟩ := h
                obtain ⟨hi17002, h⟩ := h
                refine hx_iast E hR hc17001 hi17002 dX1_init_184 (rfl : 184 + 1 = 185) (fun S17003 H locs e17005 hm17004 hR => ?_)
                have h := h S17003 e17005
                have hm := hp_mono.tr hm hm17004
                have ms157 := hp_mono.tr ms157 hm17004
                have ms170 := hp_mono.tr ms170 hm17004
                refine hp_iinc E hl (v5 + (1 : Int32)) 4 (lv' := [(1, hp_v B r1), (2, .int v2), (3, .int v3), (4, hp_v B r4)]) dX1_init_185 (rfl : 185 + 3 = 188) rfl (by first | rfl | (congr 1)) (by decide) (by simp [hp_vc, hp_ci, hp_cj]) (fun ls hl => ?_)
                refine hp_goto E (tgt := 170) dX1_init_188 (by decide) ?_
                exact hK170 _ _ _ _ _ h (lv_sub hl [1, 2, 3, 4, 0] rfl) hR ms170
              · have h := h.2 hb
                refine hp_iinc E hl (v3 + (1 : Int32)) 2 (lv' := [(1, hp_v B r1), (2, .int v2), (4, hp_v B r4), (5, .int v5)]) dX1_init_191 (rfl : 191 + 3 = 194) rfl (by first | rfl | (congr 1)) (by decide) rfl (fun ls hl => ?_)
                refine hp_goto E (tgt := 157) dX1_init_194 (by decide) ?_
                exact hK157 _ _ _ _ _ h (lv_sub hl [1, 2, 0] rfl) hR ms157
          exact key170 (μ170 v5 Sa170 + 1) v5 _ H locs ls (Nat.lt_succ_self _) hI hl hR hp_mono.rf
        unfold wb_X1_init_157 at h
        refine hp_iload_n E hl 3 rfl 2 rfl dX1_init_157 (rfl : 157 + 1 = 158) ?_
        refine hp_iload_n E hl 2 rfl 1 rfl dX1_init_158 (rfl : 158 + 1 = 159) ?_
        refine hp_icmp_ge E dX1_init_159 (rfl : 159 + 3 = 162) (tgt := 197) (by decide) (fun hb => ?_) (fun hb => ?_)
        · have h := h.1 hb
          refine hp_aload_n E hl 1 rfl 0 rfl dX1_init_162 (rfl : 162 + 1 = 163) ?_
          refine hp_iload_n E hl 3 rfl 2 rfl dX1_init_163 (rfl : 163 + 1 = 164) ?_
          obtain ⟨hc15701, h⟩ := h
          obtain ⟨hi15702, h⟩ := h
          refine hp_aald E hR (Or.inr (Or.inl hc15701)) hi15702 dX1_init_164 (rfl : 164 + 1 = 165) ?_
          refine hp_astore E hl 4 (lv' := [(1, hp_v B r1), (2, .int v2), (3, .int v3)]) dX1_init_165 (rfl : 165 + 2 = 167) (by decide) rfl (fun ls hl => ?_)
          refine hp_iconst E (0 : Int32) (by decide) dX1_init_167 (rfl : 167 + 1 = 168) ?_
          refine hp_istore E hl 5 (lv' := [(4, hp_v B (st_R Su157 r1 v3.toNatClampNeg)), (1, hp_v B r1), (2, .int v2), (3, .int v3)]) dX1_init_168 (rfl : 168 + 2 = 170) (by decide) (by simp [hp_vc, hp_ci, hp_cj]) (fun ls hl => ?_)
          exact b170 _ _ _ _ _ _ _ h (lv_sub hl [2, 3, 4, 1, 0] rfl) hR hm ms157
        · have h := h.2 hb
          exact hp_vret E hR ⟨hm, h⟩ (Nat.le_of_ble_eq_true rfl) (Nat.le_of_ble_eq_true rfl) dX1_init_197
    exact key157 (μ157 v3 Sa157 + 1) v3 _ H locs ls (Nat.lt_succ_self _) hI hl hR hp_mono.rf
  unfold wp_X1_init at h
  refine hp_aload_n E hl 0 rfl 0 rfl dX1_init_0 (rfl : 0 + 1 = 1) ?_
  refine hp_obj E hl (hp_ne hR hc0) q114 q115 q116 dX1_init_1 (rfl : 1 + 3 = 4) (Nat.le_of_ble_eq_true rfl) (Nat.le_of_ble_eq_true rfl) (Nat.le_of_ble_eq_true rfl) ?_
  refine hp_aload_n E hl 0 rfl 0 rfl dX1_init_4 (rfl : 4 + 1 = 5) ?_
  refine hp_sipush E (500 : Int32) (by decide) dX1_init_5 (rfl : 5 + 3 = 8) ?_
  refine hx_newa E hR (atype := .byte) (ty := .byte) rfl 52 2 rfl (Or.inr (Or.inr (Or.inl ⟨rfl, rfl⟩))) q148 (N := 500) (by decide) (by decide) (Nat.le_of_ble_eq_true rfl) (Nat.le_of_ble_eq_true rfl) (Nat.le_of_ble_eq_true rfl) dX1_init_8 (rfl : 8 + 2 = 10) (fun n4 S1 H e5 e3 hf6 hm2 hc7 hR => ?_)
  have h := h n4 S1 e5 e3 hf6
  have hm := hp_mono.tr hm hm2
  refine hx_putR E hR in_X1 tyX1 tyX1_ok nmX1 (hp_mono.c hm hc0) rfl 0 (Nat.le_of_ble_eq_true rfl) rfl q315 (fun _ h => h) (Or.inr ⟨E.nmm, rfl⟩) rfl dX1_init_10 (rfl : 10 + 3 = 13) (fun S8 H locs e10 hm9 hR => ?_)
  have h := h S8 e10
  have hm := hp_mono.tr hm hm9
  refine hp_aload_n E hl 0 rfl 0 rfl dX1_init_13 (rfl : 13 + 1 = 14) ?_
  refine hp_iconst E (-1 : Int32) (by decide) dX1_init_14 (rfl : 14 + 1 = 15) ?_
  refine hx_putI E hR in_X1 tyX1 tyX1_ok nmX1 (hp_mono.c hm hc0) rfl 3 (Nat.le_of_ble_eq_true rfl) rfl q318 (fun _ h => h) (Or.inl rfl) (Or.inl rfl) dX1_init_15 (rfl : 15 + 3 = 18) (fun S11 H locs e13 hm12 hR => ?_)
  have h := h S11 e13
  have hm := hp_mono.tr hm hm12
  refine hp_aload_n E hl 0 rfl 0 rfl dX1_init_18 (rfl : 18 + 1 = 19) ?_
  refine hx_new E hR in_X2 tyX2 tyX2_ok (ci := 1) rfl hd_X2 q117 q118 q74 (Nat.le_of_ble_eq_true rfl) (Nat.le_of_ble_eq_true rfl) dX1_init_19 (rfl : 19 + 3 = 22) (fun n17 S14 H e18 e16 hf19 hm15 hc20 hR => ?_)
  have h := h n17 S14 e18 e16 hf19
  have hm := hp_mono.tr hm hm15
  refine hp_dup E hp_vc dX1_init_22 (rfl : 22 + 1 = 23) ?_
  refine hp_aload_n E hl 0 rfl 0 rfl dX1_init_23 (rfl : 23 + 1 = 24) ?_
  refine hp_fv (hp_rIN E hR hl (hp_ne hR hc20) (m_X2_init G _ _ _ _ hc20 h) rfl q119 q120 q74 q121 nf_X2_init ⟨Nat.le_of_ble_eq_true rfl, Nat.le_of_ble_eq_true rfl⟩ (rest := [hp_v B n17, hp_v B o]) rfl (Nat.le_of_ble_eq_true rfl) dX1_init_24 ⟨Nat.le_of_ble_eq_true rfl, Nat.le_of_ble_eq_true rfl⟩) hR (rfl : 24 + 3 = 27) (fun S21 H locs hq hR => ?_)
  obtain ⟨hm22, h⟩ := hq
  have h := h hm22
  have hm := hp_mono.tr hm hm22
  refine hx_putR E hR in_X1 tyX1 tyX1_ok nmX1 (hp_mono.c hm hc0) rfl 6 (Nat.le_of_ble_eq_true rfl) rfl q322 (fun _ h => h) (Or.inr ⟨E.nmm, rfl⟩) rfl dX1_init_27 (rfl : 27 + 3 = 30) (fun S23 H locs e25 hm24 hR => ?_)
  have h := h S23 e25
  have hm := hp_mono.tr hm hm24
  refine hp_aload_n E hl 0 rfl 0 rfl dX1_init_30 (rfl : 30 + 1 = 31) ?_
  refine hx_new E hR in_X3 tyX3 tyX3_ok (ci := 2) rfl hd_X3 q149 q150 q75 (Nat.le_of_ble_eq_true rfl) (Nat.le_of_ble_eq_true rfl) dX1_init_31 (rfl : 31 + 3 = 34) (fun n29 S26 H e30 e28 hf31 hm27 hc32 hR => ?_)
  have h := h n29 S26 e30 e28 hf31
  have hm := hp_mono.tr hm hm27
  refine hp_dup E hp_vc dX1_init_34 (rfl : 34 + 1 = 35) ?_
  refine hp_fv (hp_rIN E hR hl (hp_ne hR hc32) (m_X3_init G _ _ _ hc32 h) rfl q151 q152 q75 q153 nf_X3_init ⟨Nat.le_of_ble_eq_true rfl, Nat.le_of_ble_eq_true rfl⟩ (rest := [hp_v B n29, hp_v B o]) rfl (Nat.le_of_ble_eq_true rfl) dX1_init_35 ⟨Nat.le_of_ble_eq_true rfl, Nat.le_of_ble_eq_true rfl⟩) hR (rfl : 35 + 3 = 38) (fun S33 H locs hq hR => ?_)
  obtain ⟨hm34, h⟩ := hq
  have h := h hm34
  have hm := hp_mono.tr hm hm34
  refine hx_putR E hR in_X1 tyX1 tyX1_ok nmX1 (hp_mono.c hm hc0) rfl 7 (Nat.le_of_ble_eq_true rfl) rfl q324 (fun _ h => h) (Or.inl rfl) rfl dX1_init_38 (rfl : 38 + 3 = 41) (fun S35 H locs e37 hm36 hR => ?_)
  have h := h S35 e37
  have hm := hp_mono.tr hm hm36
  refine hp_aload_n E hl 0 rfl 0 rfl dX1_init_41 (rfl : 41 + 1 = 42) ?_
  refine hx_new E hR in_J2 tyJ2 tyJ2_ok (ci := 16) rfl hd_J2 q214 q156 q78 (Nat.le_of_ble_eq_true rfl) (Nat.le_of_ble_eq_true rfl) dX1_init_42 (rfl : 42 + 3 = 45) (fun n41 S38 H e42 e40 hf43 hm39 hc44 hR => ?_)
  have h := h n41 S38 e42 e40 hf43
  have hm := hp_mono.tr hm hm39
  refine hp_dup E hp_vc dX1_init_45 (rfl : 45 + 1 = 46) ?_
  refine hp_bipush E (12 : Int32) (by decide) dX1_init_46 (rfl : 46 + 2 = 48) ?_
  refine hp_fv (hp_rI E hR hl (hp_ne hR hc44) (m_J2_init G _ _ _ _ hc44 h) rfl q215 q158 q78 q159 nf_J2_init ⟨Nat.le_of_ble_eq_true rfl, Nat.le_of_ble_eq_true rfl⟩ (rest := [hp_v B n41, hp_v B o]) rfl (Nat.le_of_ble_eq_true rfl) dX1_init_48 ⟨Nat.le_of_ble_eq_true rfl, Nat.le_of_ble_eq_true rfl⟩) hR (rfl : 48 + 3 = 51) (fun S45 H locs hq hR => ?_)
  obtain ⟨hm46, h⟩ := hq
  have h := h hm46
  have hm := hp_mono.tr hm hm46
  refine hx_putR E hR in_X1 tyX1 tyX1_ok nmX1 (hp_mono.c hm hc0) rfl 8 (Nat.le_of_ble_eq_true rfl) rfl q328 (fun _ h => h) (Or.inr ⟨E.nmm, rfl⟩) rfl dX1_init_51 (rfl : 51 + 3 = 54) (fun S47 H locs e49 hm48 hR => ?_)
  have h := h S47 e49
  have hm := hp_mono.tr hm hm48
  refine hp_aload_n E hl 0 rfl 0 rfl dX1_init_54 (rfl : 54 + 1 = 55) ?_
  refine hx_new E hR in_J2 tyJ2 tyJ2_ok (ci := 16) rfl hd_J2 q214 q156 q78 (Nat.le_of_ble_eq_true rfl) (Nat.le_of_ble_eq_true rfl) dX1_init_55 (rfl : 55 + 3 = 58) (fun n53 S50 H e54 e52 hf55 hm51 hc56 hR => ?_)
  have h := h n53 S50 e54 e52 hf55
  have hm := hp_mono.tr hm hm51
  refine hp_dup E hp_vc dX1_init_58 (rfl : 58 + 1 = 59) ?_
  refine hp_bipush E (16 : Int32) (by decide) dX1_init_59 (rfl : 59 + 2 = 61) ?_
  refine hp_fv (hp_rI E hR hl (hp_ne hR hc56) (m_J2_init G _ _ _ _ hc56 h) rfl q215 q158 q78 q159 nf_J2_init ⟨Nat.le_of_ble_eq_true rfl, Nat.le_of_ble_eq_true rfl⟩ (rest := [hp_v B n53, hp_v B o]) rfl (Nat.le_of_ble_eq_true rfl) dX1_init_61 ⟨Nat.le_of_ble_eq_true rfl, Nat.le_of_ble_eq_true rfl⟩) hR (rfl : 61 + 3 = 64) (fun S57 H locs hq hR => ?_)
  obtain ⟨hm58, h⟩ := hq
  have h := h hm58
  have hm := hp_mono.tr hm hm58
  refine hx_putR E hR in_X1 tyX1 tyX1_ok nmX1 (hp_mono.c hm hc0) rfl 9 (Nat.le_of_ble_eq_true rfl) rfl q329 (fun _ h => h) (Or.inr ⟨E.nmm, rfl⟩) rfl dX1_init_64 (rfl : 64 + 3 = 67) (fun S59 H locs e61 hm60 hR => ?_)
  have h := h S59 e61
  have hm := hp_mono.tr hm hm60
  refine hp_aload_n E hl 0 rfl 0 rfl dX1_init_67 (rfl : 67 + 1 = 68) ?_
  refine hx_new E hR in_J2 tyJ2 tyJ2_ok (ci := 16) rfl hd_J2 q214 q156 q78 (Nat.le_of_ble_eq_true rfl) (Nat.le_of_ble_eq_true rfl) dX1_init_68 (rfl : 68 + 3 = 71) (fun n65 S62 H e66 e64 hf67 hm63 hc68 hR => ?_)
  have h := h n65 S62 e66 e64 hf67
  have hm := hp_mono.tr hm hm63
  refine hp_dup E hp_vc dX1_init_71 (rfl : 71 + 1 = 72) ?_
  refine hp_bipush E (60 : Int32) (by decide) dX1_init_72 (rfl : 72 + 2 = 74) ?_
  refine hp_fv (hp_rI E hR hl (hp_ne hR hc68) (m_J2_init G _ _ _ _ hc68 h) rfl q215 q158 q78 q159 nf_J2_init ⟨Nat.le_of_ble_eq_true rfl, Nat.le_of_ble_eq_true rfl⟩ (rest := [hp_v B n65, hp_v B o]) rfl (Nat.le_of_ble_eq_true rfl) dX1_init_74 ⟨Nat.le_of_ble_eq_true rfl, Nat.le_of_ble_eq_true rfl⟩) hR (rfl : 74 + 3 = 77) (fun S69 H locs hq hR => ?_)
  obtain ⟨hm70, h⟩ := hq
  have h := h hm70
  have hm := hp_mono.tr hm hm70
  refine hx_putR E hR in_X1 tyX1 tyX1_ok nmX1 (hp_mono.c hm hc0) rfl 10 (Nat.le_of_ble_eq_true rfl) rfl q331 (fun _ h => h) (Or.inr ⟨E.nmm, rfl⟩) rfl dX1_init_77 (rfl : 77 + 3 = 80) (fun S71 H locs e73 hm72 hR => ?_)
  have h := h S71 e73
  have hm := hp_mono.tr hm hm72
  refine hp_aload_n E hl 0 rfl 0 rfl dX1_init_80 (rfl : 80 + 1 = 81) ?_
  refine hp_iconst E (4 : Int32) (by decide) dX1_init_81 (rfl : 81 + 1 = 82) ?_
  refine hp_bipush E (10 : Int32) (by decide) dX1_init_82 (rfl : 82 + 2 = 84) ?_
  refine hx_multi E hR hp_mk_int rfl q216 q217 q249 (n := 4) (k := 10) (by decide) (by decide) (Nat.le_of_ble_eq_true rfl) (Nat.le_of_ble_eq_true rfl) (Nat.le_of_ble_eq_true rfl) (Nat.le_of_ble_eq_true rfl) (Nat.le_of_ble_eq_true rfl) dX1_init_84 (rfl : 84 + 4 = 88) (fun n77 S74 H e78 e76 hf79 hm75 hc80 hR => ?_)
  have h := h n77 S74 e78 e76 hf79
  have hm := hp_mono.tr hm hm75
  refine hx_putR E hR in_X1 tyX1 tyX1_ok nmX1 (hp_mono.c hm hc0) rfl 11 (Nat.le_of_ble_eq_true rfl) rfl q333 (fun _ h => h) (Or.inr ⟨E.nmm, rfl⟩) rfl dX1_init_88 (rfl : 88 + 3 = 91) (fun S81 H locs e83 hm82 hR => ?_)
  have h := h S81 e83
  have hm := hp_mono.tr hm hm82
  refine hp_aload_n E hl 0 rfl 0 rfl dX1_init_91 (rfl : 91 + 1 = 92) ?_
  refine hp_bipush E (8 : Int32) (by decide) dX1_init_92 (rfl : 92 + 2 = 94) ?_
  refine hp_bipush E (80 : Int32) (by decide) dX1_init_94 (rfl : 94 + 2 = 96) ?_
  refine hx_multi E hR hp_mk_int rfl q216 q217 q249 (n := 8) (k := 80) (by decide) (by decide) (Nat.le_of_ble_eq_true rfl) (Nat.le_of_ble_eq_true rfl) (Nat.le_of_ble_eq_true rfl) (Nat.le_of_ble_eq_true rfl) (Nat.le_of_ble_eq_true rfl) dX1_init_96 (rfl : 96 + 4 = 100) (fun n87 S84 H e88 e86 hf89 hm85 hc90 hR => ?_)
  have h := h n87 S84 e88 e86 hf89
  have hm := hp_mono.tr hm hm85
  refine hx_putR E hR in_X1 tyX1 tyX1_ok nmX1 (hp_mono.c hm hc0) rfl 12 (Nat.le_of_ble_eq_true rfl) rfl q334 (fun _ h => h) (Or.inr ⟨E.nmm, rfl⟩) rfl dX1_init_100 (rfl : 100 + 3 = 103) (fun S91 H locs e93 hm92 hR => ?_)
  have h := h S91 e93
  have hm := hp_mono.tr hm hm92
  refine hp_aload_n E hl 0 rfl 0 rfl dX1_init_103 (rfl : 103 + 1 = 104) ?_
  refine hx_new E hR in_X4 tyX4 tyX4_ok (ci := 3) rfl hd_X4 q218 q219 q79 (Nat.le_of_ble_eq_true rfl) (Nat.le_of_ble_eq_true rfl) dX1_init_104 (rfl : 104 + 3 = 107) (fun n97 S94 H e98 e96 hf99 hm95 hc100 hR => ?_)
  have h := h n97 S94 e98 e96 hf99
  have hm := hp_mono.tr hm hm95
  refine hp_dup E hp_vc dX1_init_107 (rfl : 107 + 1 = 108) ?_
  refine hp_aload_n E hl 0 rfl 0 rfl dX1_init_108 (rfl : 108 + 1 = 109) ?_
  refine hp_fv (hp_rIN E hR hl (hp_ne hR hc100) (m_X4_init G _ _ _ _ hc100 h) rfl q220 q221 q79 q222 nf_X4_init ⟨Nat.le_of_ble_eq_true rfl, Nat.le_of_ble_eq_true rfl⟩ (rest := [hp_v B n97, hp_v B o]) rfl (Nat.le_of_ble_eq_true rfl) dX1_init_109 ⟨Nat.le_of_ble_eq_true rfl, Nat.le_of_ble_eq_true rfl⟩) hR (rfl : 109 + 3 = 112) (fun S101 H locs hq hR => ?_)
  obtain ⟨hm102, h⟩ := hq
  have h := h hm102
  have hm := hp_mono.tr hm hm102
  refine hx_putR E hR in_X1 tyX1 tyX1_ok nmX1 (hp_mono.c hm hc0) rfl 13 (Nat.le_of_ble_eq_true rfl) rfl q336 (fun _ h => h) (Or.inr ⟨E.nmm, rfl⟩) rfl dX1_init_112 (rfl : 112 + 3 = 115) (fun S103 H locs e105 hm104 hR => ?_)
  have h := h S103 e105
  have hm := hp_mono.tr hm hm104
  refine hp_aload_n E hl 0 rfl 0 rfl dX1_init_115 (rfl : 115 + 1 = 116) ?_
  refine hx_new E hR in_X5 tyX5 tyX5_ok (ci := 4) rfl hd_X5 q251 q252 q80 (Nat.le_of_ble_eq_true rfl) (Nat.le_of_ble_eq_true rfl) dX1_init_116 (rfl : 116 + 3 = 119) (fun n109 S106 H e110 e108 hf111 hm107 hc112 hR => ?_)
  have h := h n109 S106 e110 e108 hf111
  have hm := hp_mono.tr hm hm107
  refine hp_dup E hp_vc dX1_init_119 (rfl : 119 + 1 = 120) ?_
  refine hp_aload_n E hl 0 rfl 0 rfl dX1_init_120 (rfl : 120 + 1 = 121) ?_
  refine hp_fv (hp_rIN E hR hl (hp_ne hR hc112) (m_X5_init G _ _ _ _ hc112 h) rfl q253 q254 q80 q255 nf_X5_init ⟨Nat.le_of_ble_eq_true rfl, Nat.le_of_ble_eq_true rfl⟩ (rest := [hp_v B n109, hp_v B o]) rfl (Nat.le_of_ble_eq_true rfl) dX1_init_121 ⟨Nat.le_of_ble_eq_true rfl, Nat.le_of_ble_eq_true rfl⟩) hR (rfl : 121 + 3 = 124) (fun S113 H locs hq hR => ?_)
  obtain ⟨hm114, h⟩ := hq
  have h := h hm114
  have hm := hp_mono.tr hm hm114
  refine hx_putR E hR in_X1 tyX1 tyX1_ok nmX1 (hp_mono.c hm hc0) rfl 14 (Nat.le_of_ble_eq_true rfl) rfl q337 (fun _ h => h) (Or.inr ⟨E.nmm, rfl⟩) rfl dX1_init_124 (rfl : 124 + 3 = 127) (fun S115 H locs e117 hm116 hR => ?_)
  have h := h S115 e117
  have hm := hp_mono.tr hm hm116
  refine hp_aload_n E hl 0 rfl 0 rfl dX1_init_127 (rfl : 127 + 1 = 128) ?_
  refine hx_new E hR in_X6 tyX6 tyX6_ok (ci := 5) rfl hd_X6 q270 q271 q81 (Nat.le_of_ble_eq_true rfl) (Nat.le_of_ble_eq_true rfl) dX1_init_128 (rfl : 128 + 3 = 131) (fun n121 S118 H e122 e120 hf123 hm119 hc124 hR => ?_)
  have h := h n121 S118 e122 e120 hf123
  have hm := hp_mono.tr hm hm119
  refine hp_dup E hp_vc dX1_init_131 (rfl : 131 + 1 = 132) ?_
  refine hp_aload_n E hl 0 rfl 0 rfl dX1_init_132 (rfl : 132 + 1 = 133) ?_
  refine hp_fv (hp_rIN E hR hl (hp_ne hR hc124) (m_X6_init G _ _ _ _ hc124 h) rfl q272 q273 q81 q274 nf_X6_init ⟨Nat.le_of_ble_eq_true rfl, Nat.le_of_ble_eq_true rfl⟩ (rest := [hp_v B n121, hp_v B o]) rfl (Nat.le_of_ble_eq_true rfl) dX1_init_133 ⟨Nat.le_of_ble_eq_true rfl, Nat.le_of_ble_eq_true rfl⟩) hR (rfl : 133 + 3 = 136) (fun S125 H locs hq hR => ?_)
  obtain ⟨hm126, h⟩ := hq
  have h := h hm126
  have hm := hp_mono.tr hm hm126
  refine hx_putR E hR in_X1 tyX1 tyX1_ok nmX1 (hp_mono.c hm hc0) rfl 15 (Nat.le_of_ble_eq_true rfl) rfl q338 (fun _ h => h) (Or.inr ⟨E.nmm, rfl⟩) rfl dX1_init_136 (rfl : 136 + 3 = 139) (fun S127 H locs e129 hm128 hR => ?_)
  have h := h S127 e129
  have hm := hp_mono.tr hm hm128
  refine hp_aload_n E hl 0 rfl 0 rfl dX1_init_139 (rfl : 139 + 1 = 140) ?_
  refine hp_bipush E (12 : Int32) (by decide) dX1_init_140 (rfl : 140 + 2 = 142) ?_
  refine hx_newa E hR (atype := .int) (ty := .int) rfl 50 0 rfl (Or.inl ⟨rfl, rfl⟩) q249 (N := 12) (by decide) (by decide) (Nat.le_of_ble_eq_true rfl) (Nat.le_of_ble_eq_true rfl) (Nat.le_of_ble_eq_true rfl) dX1_init_142 (rfl : 142 + 2 = 144) (fun n133 S130 H e134 e132 hf135 hm131 hc136 hR => ?_)
  have h := h n133 S130 e134 e132 hf135
  have hm := hp_mono.tr hm hm131
  refine hx_putR E hR in_X1 tyX1 tyX1_ok nmX1 (hp_mono.c hm hc0) rfl 16 (Nat.le_of_ble_eq_true rfl) rfl q339 (fun _ h => h) (Or.inr ⟨E.nmm, rfl⟩) rfl dX1_init_144 (rfl : 144 + 3 = 147) (fun S137 H locs e139 hm138 hR => ?_)
  have h := h S137 e139
  have hm := hp_mono.tr hm hm138
  refine hp_aload_n E hl 0 rfl 0 rfl dX1_init_147 (rfl : 147 + 1 = 148) ?_
  refine hp_getR E hR in_X1 (hp_mono.c hm hc0) rfl 11 (Nat.le_of_ble_eq_true rfl) rfl q333 (fun _ h => h) dX1_init_148 (rfl : 148 + 3 = 151) ?_
  refine hp_astore_n E hl 1 rfl (lv' := [(0, hp_v B o)]) dX1_init_151 (rfl : 151 + 1 = 152) (by decide) (by simp [hp_vc, hp_ci, hp_cj]) (fun ls hl => ?_)
  refine hp_aload_n E hl 1 rfl 0 rfl dX1_init_152 (rfl : 152 + 1 = 153) ?_
  obtain ⟨hc140, h⟩ := h
  refine hp_alen E hR (by rw [hc140]; decide) dX1_init_153 (rfl : 153 + 1 = 154) ?_
  refine hp_istore_n E hl 2 rfl (lv' := [(1, hp_v B (st_R S137 o 11)), (0, hp_v B o)]) dX1_init_154 (rfl : 154 + 1 = 155) (by decide) (by simp [hp_vc, hp_ci, hp_cj]) (fun ls hl => ?_)
  refine hp_iconst E (0 : Int32) (by decide) dX1_init_155 (rfl : 155 + 1 = 156) ?_
  refine hp_istore_n E hl 3 rfl (lv' := [(2, .int (nI (st_L S137 (st_R S137 o 11)))), (1, hp_v B (st_R S137 o 11)), (0, hp_v B o)]) dX1_init_156 (rfl : 156 + 1 = 157) (by decide) rfl (fun ls hl => ?_)
  exact b157 _ _ _ _ _ _ _ h (lv_sub hl [2, 1, 0] rfl) hR hm
def wb_X1_put_3 (o : Nat) (a1 : Int32) (v2 : Int32) (S : hp_St) (K3 : Int32 → hp_St → Prop) (Q : hp_St → Prop) : Prop := (((v2 < 0) → Q S) ∧ ((¬ (v2 < 0)) → (∀ S301, S301 = st_pI S o 1 ((st_I S o 1) + (1 : Int32)) → (st_C S301 (st_R S o 0) = 52) ∧ (vp_in (st_I S o 1) (st_L S301 (st_R S o 0))) ∧ (∀ S306, S306 = st_pI S301 (st_R S o 0) (st_I S o 1).toNatClampNeg ((a1 >>> (v2 &&& 31)).toInt8.toInt32).toInt8.toInt32 → K3 (v2 + (-8 : Int32)) S306))))
def wl_X1_put_3 (o : Nat) (a1 : Int32) (v2 : Int32) (S : hp_St) (Q : hp_St → Prop) : Prop := ∃ (I : Int32 → hp_St → Prop) (μ : Int32 → hp_St → Nat), I v2 S ∧ ∀ (v2 : Int32) (S1 : hp_St), hp_mono S S1 → I v2 S1 → wb_X1_put_3 o a1 v2 S1 (fun v2' S2 => I v2' S2 ∧ μ v2' S2 < μ v2 S1) Q
def wp_X1_put (o : Nat) (a1 : Int32) (S : hp_St) (Q : hp_St → Prop) : Prop := wl_X1_put_3 o a1 (24 : Int32) S Q
theorem nf_X1_put : hp_nf yX1_put 1 = true := by decide +kernel
set_option maxHeartbeats 4000000 in
theorem m_X1_put {l : Launch} {B : Nat} {D : va_G} {s0 : State} {b0 : Nat} (G : hp_G l B D s0 b0) (o : Nat) (a1 : Int32) (Si : hp_St) (Q : hp_St → Prop) (hc0 : st_C Si o = 1) (h : wp_X1_put o a1 Si Q) : hp_M l B D s0 yX1_put cX1_put 3 none 2 128 0 0 [hp_v B o, .int a1] Si (hp_Qv B D s0 (fun S' => hp_mono Si S' ∧ Q S')) := by
  refine hp_start G (by decide +kernel) rfl rfl (lv := [(0, hp_v B o), (1, .int a1)]) (by simp [lg_sl, hp_vc, hp_ci, hp_cj]) (by simp [lv_args, hp_vc, hp_ci, hp_cj]) ?_
  intro p e s m args below meth c E ls hl hR
  have hm : hp_mono Si Si := hp_mono.rf
  generalize hH : s.heap = H at hR ⊢
  generalize hLo : ([] : List Loc) = locs at hR ⊢
  have b3 : ∀ (v2 : Int32) (S : hp_St) (H : Heap) (locs : List Loc) (ls : Array Slot), wl_X1_put_3 o a1 v2 S Q → lv_has ls 3 [(0, hp_v B o), (1, .int a1), (2, .int v2)] → hp_S B D s0 S H locs → hp_mono Si S → W p l e ({ frames := 2, cells := 0, slots := 0, locals := 128 } : Room) s m args below meth c H locs 0 0 (MQ below (hp_Qv B D s0 (fun S' => hp_mono Si S' ∧ Q S')) args s 0 0 (fun q => B < q)) (F0 m 3 ls []) := by
    intro v2 S H locs ls h hl hR hm
    obtain ⟨I3, μ3, hI, hst⟩ := h
    obtain ⟨Sa3, eSa3⟩ : ∃ x, x = S := ⟨_, rfl⟩
    subst eSa3
    have key3 : ∀ (N : Nat) (v2 : Int32) (Su3 : hp_St) (H : Heap) (locs : List Loc) (ls : Array Slot), μ3 v2 Su3 < N → I3 v2 Su3 → lv_has ls 3 [(0, hp_v B o), (1, .int a1), (2, .int v2)] → hp_S B D s0 Su3 H locs → hp_mono Sa3 Su3 → W p l e ({ frames := 2, cells := 0, slots := 0, locals := 128 } : Room) s m args below meth c H locs 0 0 (MQ below (hp_Qv B D s0 (fun S' => hp_mono Si S' ∧ Q S')) args s 0 0 (fun q => B < q)) (F0 m 3 ls []) := by
      intro N
      induction N with
      | zero =>
        intro v2 Su3 H locs ls hN
        exact absurd hN (Nat.not_lt_zero _)
      | succ N ih3 =>
        intro v2 Su3 H locs ls hN hI hl hR ms3
        have h := hst v2 Su3 ms3 hI
        have hm := hp_mono.tr hm ms3
        obtain ⟨K3, hKe3⟩ : ∃ K : Int32 → hp_St → Prop, K = (fun v2' Sk => I3 v2' Sk ∧ μ3 v2' Sk < μ3 v2 Su3) := ⟨_, rfl⟩
        rw [← hKe3] at h
        have hK3 : ∀ (v2' : Int32) (Sk : hp_St) (H : Heap) (locs : List Loc) (ls : Array Slot), K3 v2' Sk → lv_has ls 3 [(0, hp_v B o), (1, .int a1), (2, .int (v2'))] → hp_S B D s0 Sk H locs → hp_mono Sa3 Sk → W p l e ({ frames := 2, cells := 0, slots := 0, locals := 128 } : Room) s m args below meth c H locs 0 0 (MQ below (hp_Qv B D s0 (fun S' => hp_mono Si S' ∧ Q S')) args s 0 0 (fun q => B < q)) (F0 m 3 ls []) := by
          intro v2' Sk H locs ls hI hl hR ms
          rw [hKe3] at hI
          exact ih3 v2' Sk H locs ls (Nat.lt_of_lt_of_le hI.2 (Nat.le_of_lt_succ hN)) hI.1 hl hR ms
        unfold wb_X1_put_3 at h
        refine hp_iload_n E hl 2 rfl 2 rfl dX1_put_3 (rfl : 3 + 1 = 4) ?_
        refine hp_if_lt E dX1_put_4 (rfl : 4 + 3 = 7) (tgt := 33) (by decide) (fun hb => ?_) (fun hb => ?_)
        · have h := h.1 hb
          exact hp_vret E hR ⟨hm, h⟩ (Nat.le_of_ble_eq_true rfl) (Nat.le_of_ble_eq_true rfl) dX1_put_33
        · have h := h.2 hb
          refine hp_aload_n E hl 0 rfl 0 rfl dX1_put_7 (rfl : 7 + 1 = 8) ?_
          refine hp_getR E hR in_X1 (hp_mono.c hm hc0) rfl 0 (Nat.le_of_ble_eq_true rfl) rfl q315 (fun _ h => h) dX1_put_8 (rfl : 8 + 3 = 11) ?_
          refine hp_aload_n E hl 0 rfl 0 rfl dX1_put_11 (rfl : 11 + 1 = 12) ?_
          refine hp_dup E hp_vc dX1_put_12 (rfl : 12 + 1 = 13) ?_
          refine hp_getI E hR in_X1 (hp_mono.c hm hc0) rfl 1 (Nat.le_of_ble_eq_true rfl) rfl q316 (fun _ h => h) dX1_put_13 (rfl : 13 + 3 = 16) ?_
          refine hp_dup_x1 E rfl hp_vc dX1_put_16 (rfl : 16 + 1 = 17) ?_
          refine hp_iconst E (1 : Int32) (by decide) dX1_put_17 (rfl : 17 + 1 = 18) ?_
          refine hp_iadd E dX1_put_18 (rfl : 18 + 1 = 19) ?_
          refine hx_putI E hR in_X1 tyX1 tyX1_ok nmX1 (hp_mono.c hm hc0) rfl 1 (Nat.le_of_ble_eq_true rfl) rfl q316 (fun _ h => h) (Or.inl rfl) (Or.inl rfl) dX1_put_19 (rfl : 19 + 3 = 22) (fun S301 H locs e303 hm302 hR => ?_)
          have h := h S301 e303
          have hm := hp_mono.tr hm hm302
          have ms3 := hp_mono.tr ms3 hm302
          refine hp_iload_n E hl 1 rfl 1 rfl dX1_put_22 (rfl : 22 + 1 = 23) ?_
          refine hp_iload_n E hl 2 rfl 2 rfl dX1_put_23 (rfl : 23 + 1 = 24) ?_
          refine hp_ishr E dX1_put_24 (rfl : 24 + 1 = 25) ?_
          refine hp_i2b E dX1_put_25 (rfl : 25 + 1 = 26) ?_
          obtain ⟨hc304, h⟩ := h
          obtain ⟨hi305, h⟩ := h
          refine hx_bast E hR hc304 hi305 dX1_put_26 (rfl : 26 + 1 = 27) (fun S306 H locs e308 hm307 hR => ?_)
          have h := h S306 e308
          have hm := hp_mono.tr hm hm307
          have ms3 := hp_mono.tr ms3 hm307
          refine hp_iinc E hl (v2 + (-8 : Int32)) 2 (lv' := [(0, hp_v B o), (1, .int a1)]) dX1_put_27 (rfl : 27 + 3 = 30) rfl (by first | rfl | (congr 1)) (by decide) rfl (fun ls hl => ?_)
          refine hp_goto E (tgt := 3) dX1_put_30 (by decide) ?_
          exact hK3 _ _ _ _ _ h (lv_sub hl [1, 2, 0] rfl) hR ms3
    exact key3 (μ3 v2 Sa3 + 1) v2 _ H locs ls (Nat.lt_succ_self _) hI hl hR hp_mono.rf
  unfold wp_X1_put at h
  refine hp_bipush E (24 : Int32) (by decide) dX1_put_0 (rfl : 0 + 2 = 2) ?_
  refine hp_istore_n E hl 2 rfl (lv' := [(0, hp_v B o), (1, .int a1)]) dX1_put_2 (rfl : 2 + 1 = 3) (by decide) rfl (fun ls hl => ?_)
  exact b3 _ _ _ _ _ h (lv_sub hl [1, 2, 0] rfl) hR hm
def wp_X1_feed (o : Nat) (a1 : Int32) (a2 : Int32) (a3 : Int32) (a4 : Int32) (a5 : Int32) (S : hp_St) (Q : Int32 → hp_St → Prop) : Prop := (((((st_I S o 1) + (20 : Int32)) ≤ (500 : Int32)) → wp_X1_put o a1 S (fun S1 => hp_mono S S1 → wp_X1_put o a2 S1 (fun S3 => hp_mono S1 S3 → wp_X1_put o a3 S3 (fun S5 => hp_mono S3 S5 → wp_X1_put o a4 S5 (fun S7 => hp_mono S5 S7 → wp_X1_put o a5 S7 (fun S9 => hp_mono S7 S9 → Q (st_I S9 o 1) S9)))))) ∧ ((¬ (((st_I S o 1) + (20 : Int32)) ≤ (500 : Int32))) → Q (-1 : Int32) S))
theorem nf_X1_feed : hp_nf yX1_feed 5 = true := by decide +kernel
set_option maxHeartbeats 4000000 in
theorem m_X1_feed {l : Launch} {B : Nat} {D : va_G} {s0 : State} {b0 : Nat} (G : hp_G l B D s0 b0) (o : Nat) (a1 : Int32) (a2 : Int32) (a3 : Int32) (a4 : Int32) (a5 : Int32) (Si : hp_St) (Q : Int32 → hp_St → Prop) (hc0 : st_C Si o = 1) (h : wp_X1_feed o a1 a2 a3 a4 a5 Si Q) : hp_M l B D s0 yX1_feed cX1_feed 6 (some .int) 3 192 0 0 [hp_v B o, .int a1, .int a2, .int a3, .int a4, .int a5] Si (hp_Qi B D s0 (fun r S' => hp_mono Si S' ∧ Q r S')) := by
  refine hp_start G (by decide +kernel) rfl rfl (lv := [(0, hp_v B o), (1, .int a1), (2, .int a2), (3, .int a3), (4, .int a4), (5, .int a5)]) (by simp [lg_sl, hp_vc, hp_ci, hp_cj]) (by simp [lv_args, hp_vc, hp_ci, hp_cj]) ?_
  intro p e s m args below meth c E ls hl hR
  have hm : hp_mono Si Si := hp_mono.rf
  unfold wp_X1_feed at h
  refine hp_aload_n E hl 0 rfl 0 rfl dX1_feed_0 (rfl : 0 + 1 = 1) ?_
  refine hp_getI E hR in_X1 hc0 rfl 1 (Nat.le_of_ble_eq_true rfl) rfl q316 (fun _ h => h) dX1_feed_1 (rfl : 1 + 3 = 4) ?_
  refine hp_bipush E (20 : Int32) (by decide) dX1_feed_4 (rfl : 4 + 2 = 6) ?_
  refine hp_iadd E dX1_feed_6 (rfl : 6 + 1 = 7) ?_
  refine hp_sipush E (500 : Int32) (by decide) dX1_feed_7 (rfl : 7 + 3 = 10) ?_
  refine hp_icmp_le E dX1_feed_10 (rfl : 10 + 3 = 13) (tgt := 15) (by decide) (fun hb => ?_) (fun hb => ?_)
  · have h := h.1 hb
    refine hp_aload_n E hl 0 rfl 0 rfl dX1_feed_15 (rfl : 15 + 1 = 16) ?_
    refine hp_iload_n E hl 1 rfl 1 rfl dX1_feed_16 (rfl : 16 + 1 = 17) ?_
    refine hp_fv (hp_rV E hR hl (m_X1_put G _ _ _ _ hc0 h) hc0 (ci := 0) rfl rfl q385 q387 qs0 q73 q388 nf_X1_put ⟨Nat.le_of_ble_eq_true rfl, Nat.le_of_ble_eq_true rfl⟩ (rest := []) rfl (Nat.le_of_ble_eq_true rfl) dX1_feed_17 ⟨Nat.le_of_ble_eq_true rfl, Nat.le_of_ble_eq_true rfl⟩) hR (rfl : 17 + 3 = 20) (fun S1 H locs hq hR => ?_)
    obtain ⟨hm2, h⟩ := hq
    have h := h hm2
    have hm := hp_mono.tr hm hm2
    refine hp_aload_n E hl 0 rfl 0 rfl dX1_feed_20 (rfl : 20 + 1 = 21) ?_
    refine hp_iload_n E hl 2 rfl 2 rfl dX1_feed_21 (rfl : 21 + 1 = 22) ?_
    refine hp_fv (hp_rV E hR hl (m_X1_put G _ _ _ _ (hp_mono.c hm hc0) h) (hp_mono.c hm hc0) (ci := 0) rfl rfl q385 q387 qs0 q73 q388 nf_X1_put ⟨Nat.le_of_ble_eq_true rfl, Nat.le_of_ble_eq_true rfl⟩ (rest := []) rfl (Nat.le_of_ble_eq_true rfl) dX1_feed_22 ⟨Nat.le_of_ble_eq_true rfl, Nat.le_of_ble_eq_true rfl⟩) hR (rfl : 22 + 3 = 25) (fun S3 H locs hq hR => ?_)
    obtain ⟨hm4, h⟩ := hq
    have h := h hm4
    have hm := hp_mono.tr hm hm4
    refine hp_aload_n E hl 0 rfl 0 rfl dX1_feed_25 (rfl : 25 + 1 = 26) ?_
    refine hp_iload_n E hl 3 rfl 3 rfl dX1_feed_26 (rfl : 26 + 1 = 27) ?_
    refine hp_fv (hp_rV E hR hl (m_X1_put G _ _ _ _ (hp_mono.c hm hc0) h) (hp_mono.c hm hc0) (ci := 0) rfl rfl q385 q387 qs0 q73 q388 nf_X1_put ⟨Nat.le_of_ble_eq_true rfl, Nat.le_of_ble_eq_true rfl⟩ (rest := []) rfl (Nat.le_of_ble_eq_true rfl) dX1_feed_27 ⟨Nat.le_of_ble_eq_true rfl, Nat.le_of_ble_eq_true rfl⟩) hR (rfl : 27 + 3 = 30) (fun S5 H locs hq hR => ?_)
    obtain ⟨hm6, h⟩ := hq
    have h := h hm6
    have hm := hp_mono.tr hm hm6
    refine hp_aload_n E hl 0 rfl 0 rfl dX1_feed_30 (rfl : 30 + 1 = 31) ?_
    refine hp_iload E hl 4 rfl dX1_feed_31 (rfl : 31 + 2 = 33) ?_
    refine hp_fv (hp_rV E hR hl (m_X1_put G _ _ _ _ (hp_mono.c hm hc0) h) (hp_mono.c hm hc0) (ci := 0) rfl rfl q385 q387 qs0 q73 q388 nf_X1_put ⟨Nat.le_of_ble_eq_true rfl, Nat.le_of_ble_eq_true rfl⟩ (rest := []) rfl (Nat.le_of_ble_eq_true rfl) dX1_feed_33 ⟨Nat.le_of_ble_eq_true rfl, Nat.le_of_ble_eq_true rfl⟩) hR (rfl : 33 + 3 = 36) (fun S7 H locs hq hR => ?_)
    obtain ⟨hm8, h⟩ := hq
    have h := h hm8
    have hm := hp_mono.tr hm hm8
    refine hp_aload_n E hl 0 rfl 0 rfl dX1_feed_36 (rfl : 36 + 1 = 37) ?_
    refine hp_iload E hl 5 rfl dX1_feed_37 (rfl : 37 + 2 = 39) ?_
    refine hp_fv (hp_rV E hR hl (m_X1_put G _ _ _ _ (hp_mono.c hm hc0) h) (hp_mono.c hm hc0) (ci := 0) rfl rfl q385 q387 qs0 q73 q388 nf_X1_put ⟨Nat.le_of_ble_eq_true rfl, Nat.le_of_ble_eq_true rfl⟩ (rest := []) rfl (Nat.le_of_ble_eq_true rfl) dX1_feed_39 ⟨Nat.le_of_ble_eq_true rfl, Nat.le_of_ble_eq_true rfl⟩) hR (rfl : 39 + 3 = 42) (fun S9 H locs hq hR => ?_)
    obtain ⟨hm10, h⟩ := hq
    have h := h hm10
    have hm := hp_mono.tr hm hm10
    refine hp_aload_n E hl 0 rfl 0 rfl dX1_feed_42 (rfl : 42 + 1 = 43) ?_
    refine hp_getI E hR in_X1 (hp_mono.c hm hc0) rfl 1 (Nat.le_of_ble_eq_true rfl) rfl q316 (fun _ h => h) dX1_feed_43 (rfl : 43 + 3 = 46) ?_
    exact hp_iret E hR ⟨hm, h⟩ (Nat.le_of_ble_eq_true rfl) (Nat.le_of_ble_eq_true rfl) dX1_feed_46
  · have h := h.2 hb
    refine hp_iconst E (-1 : Int32) (by decide) dX1_feed_13 (rfl : 13 + 1 = 14) ?_
    exact hp_iret E hR ⟨hm, h⟩ (Nat.le_of_ble_eq_true rfl) (Nat.le_of_ble_eq_true rfl) dX1_feed_14
def wb_X1_in_15 (a0 : Int32) (a1 : Int32) (a2 : Int32) (t0 : Int32) (S : hp_St) (Q : Int32 → Prop) : Prop := (t0 = 0 ∨ t0 = 1) ∧ Q t0
def wb_X1_in_14 (a0 : Int32) (a1 : Int32) (a2 : Int32) (S : hp_St) (Q : Int32 → Prop) : Prop := wb_X1_in_15 a0 a1 a2 (0 : Int32) S Q
def wp_X1_in (a0 : Int32) (a1 : Int32) (a2 : Int32) (S : hp_St) (Q : Int32 → Prop) : Prop := (((a0 < a1) → wb_X1_in_14 a0 a1 a2 S Q) ∧ ((¬ (a0 < a1)) → (((a0 ≤ a2) → wb_X1_in_15 a0 a1 a2 (1 : Int32) S Q) ∧ ((¬ (a0 ≤ a2)) → wb_X1_in_14 a0 a1 a2 S Q))))
theorem nf_X1_in : hp_nf yX1_in 3 = true := by decide +kernel
set_option maxHeartbeats 4000000 in
theorem m_X1_in {l : Launch} {B : Nat} {D : va_G} {s0 : State} {b0 : Nat} (G : hp_G l B D s0 b0) (a0 : Int32) (a1 : Int32) (a2 : Int32) (Si : hp_St) (Q : Int32 → Prop) (h : wp_X1_in a0 a1 a2 Si Q) : hp_M l B D s0 yX1_in cX1_in 3 (some .boolean) 2 128 0 0 [.int a0, .int a1, .int a2] Si (hp_Qi B D s0 (fun r S' => S' = Si ∧ Q r)) := by
  refine hp_start G (by decide +kernel) rfl rfl (lv := [(0, .int a0), (1, .int a1), (2, .int a2)]) (by simp [lg_sl, hp_vc, hp_ci, hp_cj]) (by simp [lv_args, hp_vc, hp_ci, hp_cj]) ?_
  intro p e s m args below meth c E ls hl hR
  generalize hH : s.heap = H at hR ⊢
  generalize hLo : ([] : List Loc) = locs at hR ⊢
  have b15 : ∀ (t0 : Int32) (H : Heap) (locs : List Loc) (ls : Array Slot), wb_X1_in_15 a0 a1 a2 t0 Si Q → lv_has ls 3 [] → hp_S B D s0 Si H locs → W p l e ({ frames := 2, cells := 0, slots := 0, locals := 128 } : Room) s m args below meth c H locs 0 0 (MQ below (hp_Qi B D s0 (fun r S' => S' = Si ∧ Q r)) args s 0 0 (fun q => B < q)) (F0 m 15 ls [.int t0]) := by
    intro t0 H locs ls h hl hR
    unfold wb_X1_in_15 at h
    obtain ⟨hz1501, h⟩ := h
    exact hp_zret E hR hz1501 ⟨rfl, h⟩ (Nat.le_of_ble_eq_true rfl) (Nat.le_of_ble_eq_true rfl) dX1_in_15
  have b14 : ∀ (H : Heap) (locs : List Loc) (ls : Array Slot), wb_X1_in_14 a0 a1 a2 Si Q → lv_has ls 3 [] → hp_S B D s0 Si H locs → W p l e ({ frames := 2, cells := 0, slots := 0, locals := 128 } : Room) s m args below meth c H locs 0 0 (MQ below (hp_Qi B D s0 (fun r S' => S' = Si ∧ Q r)) args s 0 0 (fun q => B < q)) (F0 m 14 ls []) := by
    intro  H locs ls h hl hR
    unfold wb_X1_in_14 at h
    refine hp_iconst E (0 : Int32) (by decide) dX1_in_14 (rfl : 14 + 1 = 15) ?_
    exact b15 _ _ _ _ h hl hR
  unfold wp_X1_in at h
  refine hp_iload_n E hl 0 rfl 0 rfl dX1_in_0 (rfl : 0 + 1 = 1) ?_
  refine hp_iload_n E hl 1 rfl 1 rfl dX1_in_1 (rfl : 1 + 1 = 2) ?_
  refine hp_icmp_lt E dX1_in_2 (rfl : 2 + 3 = 5) (tgt := 14) (by decide) (fun hb => ?_) (fun hb => ?_)
  · have h := h.1 hb
    exact b14 _ _ _ h (lv_sub hl [] rfl) hR
  · have h := h.2 hb
    refine hp_iload_n E hl 0 rfl 0 rfl dX1_in_5 (rfl : 5 + 1 = 6) ?_
    refine hp_iload_n E hl 2 rfl 2 rfl dX1_in_6 (rfl : 6 + 1 = 7) ?_
    refine hp_icmp_gt E dX1_in_7 (rfl : 7 + 3 = 10) (tgt := 14) (by decide) (fun hb => ?_) (fun hb => ?_)
    · have h := h.1 hb
      refine hp_iconst E (1 : Int32) (by decide) dX1_in_10 (rfl : 10 + 1 = 11) ?_
      refine hp_goto E (tgt := 15) dX1_in_11 (by decide) ?_
      exact b15 _ _ _ _ h (lv_sub hl [] rfl) hR
    · have h := h.2 hb
      exact b14 _ _ _ h (lv_sub hl [] rfl) hR
def wb_X1_fault_24 (o : Nat) (a1 : Int32) (t0 : Int32) (S : hp_St) (Q : Int32 → Prop) : Prop := Q t0
def wp_X1_fault (o : Nat) (a1 : Int32) (S : hp_St) (Q : Int32 → Prop) : Prop := (((a1 = 0) → wb_X1_fault_24 o a1 (st_I S o 2) S Q) ∧ ((¬ (a1 = 0)) → (((a1 = (1 : Int32)) → wb_X1_fault_24 o a1 (st_I S o 3) S Q) ∧ ((¬ (a1 = (1 : Int32))) → wb_X1_fault_24 o a1 (-1 : Int32) S Q))))
theorem nf_X1_fault : hp_nf yX1_fault 1 = true := by decide +kernel
set_option maxHeartbeats 4000000 in
theorem m_X1_fault {l : Launch} {B : Nat} {D : va_G} {s0 : State} {b0 : Nat} (G : hp_G l B D s0 b0) (o : Nat) (a1 : Int32) (Si : hp_St) (Q : Int32 → Prop) (hc0 : st_C Si o = 1) (h : wp_X1_fault o a1 Si Q) : hp_M l B D s0 yX1_fault cX1_fault 2 (some .int) 2 128 0 0 [hp_v B o, .int a1] Si (hp_Qi B D s0 (fun r S' => S' = Si ∧ Q r)) := by
  refine hp_start G (by decide +kernel) rfl rfl (lv := [(0, hp_v B o), (1, .int a1)]) (by simp [lg_sl, hp_vc, hp_ci, hp_cj]) (by simp [lv_args, hp_vc, hp_ci, hp_cj]) ?_
  intro p e s m args below meth c E ls hl hR
  generalize hH : s.heap = H at hR ⊢
  generalize hLo : ([] : List Loc) = locs at hR ⊢
  have b24 : ∀ (t0 : Int32) (H : Heap) (locs : List Loc) (ls : Array Slot), wb_X1_fault_24 o a1 t0 Si Q → lv_has ls 2 [] → hp_S B D s0 Si H locs → W p l e ({ frames := 2, cells := 0, slots := 0, locals := 128 } : Room) s m args below meth c H locs 0 0 (MQ below (hp_Qi B D s0 (fun r S' => S' = Si ∧ Q r)) args s 0 0 (fun q => B < q)) (F0 m 24 ls [.int t0]) := by
    intro t0 H locs ls h hl hR
    unfold wb_X1_fault_24 at h
    exact hp_iret E hR ⟨rfl, h⟩ (Nat.le_of_ble_eq_true rfl) (Nat.le_of_ble_eq_true rfl) dX1_fault_24
  unfold wp_X1_fault at h
  refine hp_iload_n E hl 1 rfl 1 rfl dX1_fault_0 (rfl : 0 + 1 = 1) ?_
  refine hp_if_ne E dX1_fault_1 (rfl : 1 + 3 = 4) (tgt := 11) (by decide) (fun hb => ?_) (fun hb => ?_)
  · have h := h.1 hb
    refine hp_aload_n E hl 0 rfl 0 rfl dX1_fault_4 (rfl : 4 + 1 = 5) ?_
    refine hp_getI E hR in_X1 hc0 rfl 2 (Nat.le_of_ble_eq_true rfl) rfl q317 (fun _ h => h) dX1_fault_5 (rfl : 5 + 3 = 8) ?_
    refine hp_goto E (tgt := 24) dX1_fault_8 (by decide) ?_
    exact b24 _ _ _ _ h (lv_sub hl [] rfl) hR
  · have h := h.2 hb
    refine hp_iload_n E hl 1 rfl 1 rfl dX1_fault_11 (rfl : 11 + 1 = 12) ?_
    refine hp_iconst E (1 : Int32) (by decide) dX1_fault_12 (rfl : 12 + 1 = 13) ?_
    refine hp_icmp_ne E dX1_fault_13 (rfl : 13 + 3 = 16) (tgt := 23) (by decide) (fun hb => ?_) (fun hb => ?_)
    · have h := h.1 hb
      refine hp_aload_n E hl 0 rfl 0 rfl dX1_fault_16 (rfl : 16 + 1 = 17) ?_
      refine hp_getI E hR in_X1 hc0 rfl 3 (Nat.le_of_ble_eq_true rfl) rfl q318 (fun _ h => h) dX1_fault_17 (rfl : 17 + 3 = 20) ?_
      refine hp_goto E (tgt := 24) dX1_fault_20 (by decide) ?_
      exact b24 _ _ _ _ h (lv_sub hl [] rfl) hR
    · have h := h.2 hb
      refine hp_iconst E (-1 : Int32) (by decide) dX1_fault_23 (rfl : 23 + 1 = 24) ?_
      exact b24 _ _ _ _ h (lv_sub hl [] rfl) hR
def wb_X1_halves_21 (o : Nat) (a1 : Int32) (S : hp_St) (Q : Int32 → hp_St → Prop) : Prop := Q (-1 : Int32) S
def wp_X1_halves (o : Nat) (a1 : Int32) (S : hp_St) (Q : Int32 → hp_St → Prop) : Prop := wp_X1_in a1 (0 : Int32) (79 : Int32) S (fun z1 => (((z1 = 0) → wb_X1_halves_21 o a1 S Q) ∧ ((¬ (z1 = 0)) → (((((st_I S o 4) + a1) < (80 : Int32)) → (∀ S2, S2 = st_pI S o 4 ((st_I S o 4) + a1) → (∀ S5, S5 = st_pI S2 o 17 (0 : Int32) → Q (st_I S5 o 4) S5))) ∧ ((¬ (((st_I S o 4) + a1) < (80 : Int32))) → wb_X1_halves_21 o a1 S Q)))))
theorem nf_X1_halves : hp_nf yX1_halves 1 = true := by decide +kernel
set_option maxHeartbeats 4000000 in
theorem m_X1_halves {l : Launch} {B : Nat} {D : va_G} {s0 : State} {b0 : Nat} (G : hp_G l B D s0 b0) (o : Nat) (a1 : Int32) (Si : hp_St) (Q : Int32 → hp_St → Prop) (hc0 : st_C Si o = 1) (h : wp_X1_halves o a1 Si Q) : hp_M l B D s0 yX1_halves cX1_halves 2 (some .int) 3 192 0 0 [hp_v B o, .int a1] Si (hp_Qi B D s0 (fun r S' => hp_mono Si S' ∧ Q r S')) := by
  refine hp_start G (by decide +kernel) rfl rfl (lv := [(0, hp_v B o), (1, .int a1)]) (by simp [lg_sl, hp_vc, hp_ci, hp_cj]) (by simp [lv_args, hp_vc, hp_ci, hp_cj]) ?_
  intro p e s m args below meth c E ls hl hR
  have hm : hp_mono Si Si := hp_mono.rf
  generalize hH : s.heap = H at hR ⊢
  generalize hLo : ([] : List Loc) = locs at hR ⊢
  have b21 : ∀ (S : hp_St) (H : Heap) (locs : List Loc) (ls : Array Slot), wb_X1_halves_21 o a1 S Q → lv_has ls 2 [] → hp_S B D s0 S H locs → hp_mono Si S → W p l e ({ frames := 3, cells := 0, slots := 0, locals := 192 } : Room) s m args below meth c H locs 0 0 (MQ below (hp_Qi B D s0 (fun r S' => hp_mono Si S' ∧ Q r S')) args s 0 0 (fun q => B < q)) (F0 m 21 ls []) := by
    intro S H locs ls h hl hR hm
    unfold wb_X1_halves_21 at h
    refine hp_iconst E (-1 : Int32) (by decide) dX1_halves_21 (rfl : 21 + 1 = 22) ?_
    exact hp_iret E hR ⟨hm, h⟩ (Nat.le_of_ble_eq_true rfl) (Nat.le_of_ble_eq_true rfl) dX1_halves_22
  unfold wp_X1_halves at h
  refine hp_iload_n E hl 1 rfl 1 rfl dX1_halves_0 (rfl : 0 + 1 = 1) ?_
  refine hp_iconst E (0 : Int32) (by decide) dX1_halves_1 (rfl : 1 + 1 = 2) ?_
  refine hp_bipush E (79 : Int32) (by decide) dX1_halves_2 (rfl : 2 + 2 = 4) ?_
  refine hp_fi (hp_rS E hR hl (m_X1_in G _ _ _ _ _ h) q394 q395 q73 q396 nf_X1_in ⟨Nat.le_of_ble_eq_true rfl, Nat.le_of_ble_eq_true rfl⟩ (rest := []) rfl (Nat.le_of_ble_eq_true rfl) dX1_halves_4 ⟨Nat.le_of_ble_eq_true rfl, Nat.le_of_ble_eq_true rfl⟩) hR (rfl : 4 + 3 = 7) (fun z1 Sx H locs hq hR => ?_)
  obtain ⟨hSx, h⟩ := hq
  rw [hSx] at hR
  refine hp_if_eq E dX1_halves_7 (rfl : 7 + 3 = 10) (tgt := 21) (by decide) (fun hb => ?_) (fun hb => ?_)
  · have h := h.1 hb
    exact b21 _ _ _ _ h (lv_sub hl [] rfl) hR hm
  · have h := h.2 hb
    refine hp_aload_n E hl 0 rfl 0 rfl dX1_halves_10 (rfl : 10 + 1 = 11) ?_
    refine hp_getI E hR in_X1 hc0 rfl 4 (Nat.le_of_ble_eq_true rfl) rfl q320 (fun _ h => h) dX1_halves_11 (rfl : 11 + 3 = 14) ?_
    refine hp_iload_n E hl 1 rfl 1 rfl dX1_halves_14 (rfl : 14 + 1 = 15) ?_
    refine hp_iadd E dX1_halves_15 (rfl : 15 + 1 = 16) ?_
    refine hp_bipush E (80 : Int32) (by decide) dX1_halves_16 (rfl : 16 + 2 = 18) ?_
    refine hp_icmp_lt E dX1_halves_18 (rfl : 18 + 3 = 21) (tgt := 23) (by decide) (fun hb => ?_) (fun hb => ?_)
    · have h := h.1 hb
      refine hp_aload_n E hl 0 rfl 0 rfl dX1_halves_23 (rfl : 23 + 1 = 24) ?_
      refine hp_dup E hp_vc dX1_halves_24 (rfl : 24 + 1 = 25) ?_
      refine hp_getI E hR in_X1 hc0 rfl 4 (Nat.le_of_ble_eq_true rfl) rfl q320 (fun _ h => h) dX1_halves_25 (rfl : 25 + 3 = 28) ?_
      refine hp_iload_n E hl 1 rfl 1 rfl dX1_halves_28 (rfl : 28 + 1 = 29) ?_
      refine hp_iadd E dX1_halves_29 (rfl : 29 + 1 = 30) ?_
      refine hx_putI E hR in_X1 tyX1 tyX1_ok nmX1 hc0 rfl 4 (Nat.le_of_ble_eq_true rfl) rfl q320 (fun _ h => h) (Or.inl rfl) (Or.inl rfl) dX1_halves_30 (rfl : 30 + 3 = 33) (fun S2 H locs e4 hm3 hR => ?_)
      have h := h S2 e4
      have hm := hp_mono.tr hm hm3
      refine hp_aload_n E hl 0 rfl 0 rfl dX1_halves_33 (rfl : 33 + 1 = 34) ?_
      refine hp_iconst E (0 : Int32) (by decide) dX1_halves_34 (rfl : 34 + 1 = 35) ?_
      refine hx_putI E hR in_X1 tyX1 tyX1_ok nmX1 (hp_mono.c hm hc0) rfl 17 (Nat.le_of_ble_eq_true rfl) rfl q340 (fun _ h => h) (Or.inl rfl) (Or.inr ⟨rfl, (Or.inl rfl)⟩) dX1_halves_35 (rfl : 35 + 3 = 38) (fun S5 H locs e7 hm6 hR => ?_)
      have h := h S5 e7
      have hm := hp_mono.tr hm hm6
      refine hp_aload_n E hl 0 rfl 0 rfl dX1_halves_38 (rfl : 38 + 1 = 39) ?_
      refine hp_getI E hR in_X1 (hp_mono.c hm hc0) rfl 4 (Nat.le_of_ble_eq_true rfl) rfl q320 (fun _ h => h) dX1_halves_39 (rfl : 39 + 3 = 42) ?_
      exact hp_iret E hR ⟨hm, h⟩ (Nat.le_of_ble_eq_true rfl) (Nat.le_of_ble_eq_true rfl) dX1_halves_42
    · have h := h.2 hb
      exact b21 _ _ _ _ h (lv_sub hl [] rfl) hR hm
def wp_X10_init (o : Nat) (a1 : Int32) (a2 : Int32) (a3 : Int32) (S : hp_St) (Q : hp_St → Prop) : Prop := (∀ S1, S1 = st_pI S o 0 a1 → (∀ S4, S4 = st_pI S1 o 1 a2 → (∀ S7, S7 = st_pI S4 o 2 a3 → Q S7)))
theorem nf_X10_init : hp_nf yX10_init 3 = true := by decide +kernel
set_option maxHeartbeats 4000000 in
theorem m_X10_init {l : Launch} {B : Nat} {D : va_G} {s0 : State} {b0 : Nat} (G : hp_G l B D s0 b0) (o : Nat) (a1 : Int32) (a2 : Int32) (a3 : Int32) (Si : hp_St) (Q : hp_St → Prop) (hc0 : st_C Si o = 10) (h : wp_X10_init o a1 a2 a3 Si Q) : hp_M l B D s0 yX10_init cX10_init 4 none 2 128 0 0 [hp_v B o, .int a1, .int a2, .int a3] Si (hp_Qv B D s0 (fun S' => hp_mono Si S' ∧ Q S')) := by
  refine hp_start G (by decide +kernel) rfl rfl (lv := [(0, hp_v B o), (1, .int a1), (2, .int a2), (3, .int a3)]) (by simp [lg_sl, hp_vc, hp_ci, hp_cj]) (by simp [lv_args, hp_vc, hp_ci, hp_cj]) ?_
  intro p e s m args below meth c E ls hl hR
  have hm : hp_mono Si Si := hp_mono.rf
  unfold wp_X10_init at h
  refine hp_aload_n E hl 0 rfl 0 rfl dX10_init_0 (rfl : 0 + 1 = 1) ?_
  refine hp_obj E hl (hp_ne hR hc0) q697 q115 q116 dX10_init_1 (rfl : 1 + 3 = 4) (Nat.le_of_ble_eq_true rfl) (Nat.le_of_ble_eq_true rfl) (Nat.le_of_ble_eq_true rfl) ?_
  refine hp_aload_n E hl 0 rfl 0 rfl dX10_init_4 (rfl : 4 + 1 = 5) ?_
  refine hp_iload_n E hl 1 rfl 1 rfl dX10_init_5 (rfl : 5 + 1 = 6) ?_
  refine hx_putI E hR in_X10 tyX10 tyX10_ok nmX10 hc0 rfl 0 (Nat.le_of_ble_eq_true rfl) rfl q698 (fun _ h => h) (Or.inr ⟨E.nmm, rfl⟩) (Or.inl rfl) dX10_init_6 (rfl : 6 + 3 = 9) (fun S1 H locs e3 hm2 hR => ?_)
  have h := h S1 e3
  have hm := hp_mono.tr hm hm2
  refine hp_aload_n E hl 0 rfl 0 rfl dX10_init_9 (rfl : 9 + 1 = 10) ?_
  refine hp_iload_n E hl 2 rfl 2 rfl dX10_init_10 (rfl : 10 + 1 = 11) ?_
  refine hx_putI E hR in_X10 tyX10 tyX10_ok nmX10 (hp_mono.c hm hc0) rfl 1 (Nat.le_of_ble_eq_true rfl) rfl q703 (fun _ h => h) (Or.inr ⟨E.nmm, rfl⟩) (Or.inl rfl) dX10_init_11 (rfl : 11 + 3 = 14) (fun S4 H locs e6 hm5 hR => ?_)
  have h := h S4 e6
  have hm := hp_mono.tr hm hm5
  refine hp_aload_n E hl 0 rfl 0 rfl dX10_init_14 (rfl : 14 + 1 = 15) ?_
  refine hp_iload_n E hl 3 rfl 3 rfl dX10_init_15 (rfl : 15 + 1 = 16) ?_
  refine hx_putI E hR in_X10 tyX10 tyX10_ok nmX10 (hp_mono.c hm hc0) rfl 2 (Nat.le_of_ble_eq_true rfl) rfl q707 (fun _ h => h) (Or.inr ⟨E.nmm, rfl⟩) (Or.inl rfl) dX10_init_16 (rfl : 16 + 3 = 19) (fun S7 H locs e9 hm8 hR => ?_)
  have h := h S7 e9
  have hm := hp_mono.tr hm hm8
  exact hp_vret E hR ⟨hm, h⟩ (Nat.le_of_ble_eq_true rfl) (Nat.le_of_ble_eq_true rfl) dX10_init_19
def wb_X1_life_35 (o : Nat) (a1 : Int32) (a2 : Int32) (S : hp_St) (Q : Int32 → hp_St → Prop) : Prop := Q (-1 : Int32) S
def wp_X1_life (o : Nat) (a1 : Int32) (a2 : Int32) (S : hp_St) (Q : Int32 → hp_St → Prop) : Prop := wp_X1_in a1 (-160 : Int32) (st_I S o 4) S (fun z1 => (((z1 = 0) → wb_X1_life_35 o a1 a2 S Q) ∧ ((¬ (z1 = 0)) → wp_X1_in a2 (0 : Int32) (3 : Int32) S (fun z2 => (((z2 = 0) → wb_X1_life_35 o a1 a2 S Q) ∧ ((¬ (z2 = 0)) → (st_C S (st_R S o 8) = 17) ∧ wp_J2_size (st_R S o 8) S (fun z4 => (((z4 = (12 : Int32)) → wb_X1_life_35 o a1 a2 S Q) ∧ ((¬ (z4 = (12 : Int32))) → (∀ n8 S5, n8 = st_Z S → S5 = st_nA S 10 0 → hp_fr S n8 → (st_C S5 (st_R S5 o 8) = 17) ∧ wp_J2_size (st_R S5 o 8) S5 (fun z13 => wp_X10_init n8 z13 a1 a2 S5 (fun S14 => hp_mono S5 S14 → wp_J2_add (st_R S o 8) n8 S14 (fun z16 S17 => hp_mono S14 S17 → (st_C S17 (st_R S17 o 8) = 17) ∧ wp_J2_size (st_R S17 o 8) S17 (fun z20 => Q (z20 - (1 : Int32)) S17))))))))))))))
theorem nf_X1_life : hp_nf yX1_life 2 = true := by decide +kernel
set_option maxHeartbeats 4000000 in
theorem m_X1_life {l : Launch} {B : Nat} {D : va_G} {s0 : State} {b0 : Nat} (G : hp_G l B D s0 b0) (o : Nat) (a1 : Int32) (a2 : Int32) (Si : hp_St) (Q : Int32 → hp_St → Prop) (hc0 : st_C Si o = 1) (h : wp_X1_life o a1 a2 Si Q) : hp_M l B D s0 yX1_life cX1_life 3 (some .int) 9 576 2 67 [hp_v B o, .int a1, .int a2] Si (hp_Qi B D s0 (fun r S' => hp_mono Si S' ∧ Q r S')) := by
  refine hp_start G (by decide +kernel) rfl rfl (lv := [(0, hp_v B o), (1, .int a1), (2, .int a2)]) (by simp [lg_sl, hp_vc, hp_ci, hp_cj]) (by simp [lv_args, hp_vc, hp_ci, hp_cj]) ?_
  intro p e s m args below meth c E ls hl hR
  have hm : hp_mono Si Si := hp_mono.rf
  generalize hH : s.heap = H at hR ⊢
  generalize hLo : ([] : List Loc) = locs at hR ⊢
  have b35 : ∀ (S : hp_St) (H : Heap) (locs : List Loc) (ls : Array Slot), wb_X1_life_35 o a1 a2 S Q → lv_has ls 3 [] → hp_S B D s0 S H locs → hp_mono Si S → W p l e ({ frames := 9, cells := 2, slots := 67, locals := 576 } : Room) s m args below meth c H locs 0 0 (MQ below (hp_Qi B D s0 (fun r S' => hp_mono Si S' ∧ Q r S')) args s 2 67 (fun q => B < q)) (F0 m 35 ls []) := by
    intro S H locs ls h hl hR hm
    unfold wb_X1_life_35 at h
    refine hp_iconst E (-1 : Int32) (by decide) dX1_life_35 (rfl : 35 + 1 = 36) ?_
    exact hp_iret E hR ⟨hm, h⟩ (Nat.le_of_ble_eq_true rfl) (Nat.le_of_ble_eq_true rfl) dX1_life_36
  unfold wp_X1_life at h
  refine hp_iload_n E hl 1 rfl 1 rfl dX1_life_0 (rfl : 0 + 1 = 1) ?_
  refine hp_sipush E (-160 : Int32) (by decide) dX1_life_1 (rfl : 1 + 3 = 4) ?_
  refine hp_aload_n E hl 0 rfl 0 rfl dX1_life_4 (rfl : 4 + 1 = 5) ?_
  refine hp_getI E hR in_X1 hc0 rfl 4 (Nat.le_of_ble_eq_true rfl) rfl q320 (fun _ h => h) dX1_life_5 (rfl : 5 + 3 = 8) ?_
  refine hp_fi (hp_rS E hR hl (m_X1_in G _ _ _ _ _ h) q394 q395 q73 q396 nf_X1_in ⟨Nat.le_of_ble_eq_true rfl, Nat.le_of_ble_eq_true rfl⟩ (rest := []) rfl (Nat.le_of_ble_eq_true rfl) dX1_life_8 ⟨Nat.le_of_ble_eq_true rfl, Nat.le_of_ble_eq_true rfl⟩) hR (rfl : 8 + 3 = 11) (fun z1 Sx H locs hq hR => ?_)
  obtain ⟨hSx, h⟩ := hq
  rw [hSx] at hR
  refine hp_if_eq E dX1_life_11 (rfl : 11 + 3 = 14) (tgt := 35) (by decide) (fun hb => ?_) (fun hb => ?_)
  · have h := h.1 hb
    exact b35 _ _ _ _ h (lv_sub hl [] rfl) hR hm
  · have h := h.2 hb
    refine hp_iload_n E hl 2 rfl 2 rfl dX1_life_14 (rfl : 14 + 1 = 15) ?_
    refine hp_iconst E (0 : Int32) (by decide) dX1_life_15 (rfl : 15 + 1 = 16) ?_
    refine hp_iconst E (3 : Int32) (by decide) dX1_life_16 (rfl : 16 + 1 = 17) ?_
    refine hp_fi (hp_rS E hR hl (m_X1_in G _ _ _ _ _ h) q394 q395 q73 q396 nf_X1_in ⟨Nat.le_of_ble_eq_true rfl, Nat.le_of_ble_eq_true rfl⟩ (rest := []) rfl (Nat.le_of_ble_eq_true rfl) dX1_life_17 ⟨Nat.le_of_ble_eq_true rfl, Nat.le_of_ble_eq_true rfl⟩) hR (rfl : 17 + 3 = 20) (fun z2 Sx H locs hq hR => ?_)
    obtain ⟨hSx, h⟩ := hq
    rw [hSx] at hR
    refine hp_if_eq E dX1_life_20 (rfl : 20 + 3 = 23) (tgt := 35) (by decide) (fun hb => ?_) (fun hb => ?_)
    · have h := h.1 hb
      exact b35 _ _ _ _ h (lv_sub hl [] rfl) hR hm
    · have h := h.2 hb
      refine hp_aload_n E hl 0 rfl 0 rfl dX1_life_23 (rfl : 23 + 1 = 24) ?_
      refine hp_getR E hR in_X1 hc0 rfl 8 (Nat.le_of_ble_eq_true rfl) rfl q328 (fun _ h => h) dX1_life_24 (rfl : 24 + 3 = 27) ?_
      obtain ⟨hc3, h⟩ := h
      refine hp_fi (hp_rV E hR hl (m_J2_size G _ _ _ hc3 h) hc3 (ci := 16) rfl rfl q691 q545 q546 q78 q547 nf_J2_size ⟨Nat.le_of_ble_eq_true rfl, Nat.le_of_ble_eq_true rfl⟩ (rest := []) rfl (Nat.le_of_ble_eq_true rfl) dX1_life_27 ⟨Nat.le_of_ble_eq_true rfl, Nat.le_of_ble_eq_true rfl⟩) hR (rfl : 27 + 3 = 30) (fun z4 Sx H locs hq hR => ?_)
      obtain ⟨hSx, h⟩ := hq
      rw [hSx] at hR
      refine hp_bipush E (12 : Int32) (by decide) dX1_life_30 (rfl : 30 + 2 = 32) ?_
      refine hp_icmp_ne E dX1_life_32 (rfl : 32 + 3 = 35) (tgt := 37) (by decide) (fun hb => ?_) (fun hb => ?_)
      · have h := h.1 hb
        exact b35 _ _ _ _ h (lv_sub hl [] rfl) hR hm
      · have h := h.2 hb
        refine hp_aload_n E hl 0 rfl 0 rfl dX1_life_37 (rfl : 37 + 1 = 38) ?_
        refine hp_getR E hR in_X1 hc0 rfl 8 (Nat.le_of_ble_eq_true rfl) rfl q328 (fun _ h => h) dX1_life_38 (rfl : 38 + 3 = 41) ?_
        refine hx_new E hR in_X10 tyX10 tyX10_ok (ci := 9) rfl hd_X10 q692 q693 q95 (Nat.le_of_ble_eq_true rfl) (Nat.le_of_ble_eq_true rfl) dX1_life_41 (rfl : 41 + 3 = 44) (fun n8 S5 H e9 e7 hf10 hm6 hc11 hR => ?_)
        have h := h n8 S5 e9 e7 hf10
        have hm := hp_mono.tr hm hm6
        refine hp_dup E hp_vc dX1_life_44 (rfl : 44 + 1 = 45) ?_
        refine hp_aload_n E hl 0 rfl 0 rfl dX1_life_45 (rfl : 45 + 1 = 46) ?_
        refine hp_getR E hR in_X1 (hp_mono.c hm hc0) rfl 8 (Nat.le_of_ble_eq_true rfl) rfl q328 (fun _ h => h) dX1_life_46 (rfl : 46 + 3 = 49) ?_
        obtain ⟨hc12, h⟩ := h
        refine hp_fi (hp_rV E hR hl (m_J2_size G _ _ _ hc12 h) hc12 (ci := 16) rfl rfl q691 q545 q546 q78 q547 nf_J2_size ⟨Nat.le_of_ble_eq_true rfl, Nat.le_of_ble_eq_true rfl⟩ (rest := [hp_v B n8, hp_v B n8, hp_v B (st_R Si o 8)]) rfl (Nat.le_of_ble_eq_true rfl) dX1_life_49 ⟨Nat.le_of_ble_eq_true rfl, Nat.le_of_ble_eq_true rfl⟩) hR (rfl : 49 + 3 = 52) (fun z13 Sx H locs hq hR => ?_)
        obtain ⟨hSx, h⟩ := hq
        rw [hSx] at hR
        refine hp_iload_n E hl 1 rfl 1 rfl dX1_life_52 (rfl : 52 + 1 = 53) ?_
        refine hp_iload_n E hl 2 rfl 2 rfl dX1_life_53 (rfl : 53 + 1 = 54) ?_
        refine hp_fv (hp_rI E hR hl (hp_ne hR hc11) (m_X10_init G _ _ _ _ _ _ hc11 h) rfl q694 q695 q95 q696 nf_X10_init ⟨Nat.le_of_ble_eq_true rfl, Nat.le_of_ble_eq_true rfl⟩ (rest := [hp_v B n8, hp_v B (st_R Si o 8)]) rfl (Nat.le_of_ble_eq_true rfl) dX1_life_54 ⟨Nat.le_of_ble_eq_true rfl, Nat.le_of_ble_eq_true rfl⟩) hR (rfl : 54 + 3 = 57) (fun S14 H locs hq hR => ?_)
        obtain ⟨hm15, h⟩ := hq
        have h := h hm15
        have hm := hp_mono.tr hm hm15
        refine hp_fi (hp_rV E hR hl (m_J2_add G _ _ _ _ (hp_mono.c hm hc3) h) (hp_mono.c hm hc3) (ci := 16) rfl rfl q718 q613 q614 q78 q615 nf_J2_add ⟨Nat.le_of_ble_eq_true rfl, Nat.le_of_ble_eq_true rfl⟩ (rest := []) rfl (Nat.le_of_ble_eq_true rfl) dX1_life_57 ⟨Nat.le_of_ble_eq_true rfl, Nat.le_of_ble_eq_true rfl⟩) hR (rfl : 57 + 3 = 60) (fun z16 S17 H locs hq hR => ?_)
        obtain ⟨hm18, h⟩ := hq
        have h := h hm18
        have hm := hp_mono.tr hm hm18
        refine hp_pop E rfl dX1_life_60 (rfl : 60 + 1 = 61) ?_
        refine hp_aload_n E hl 0 rfl 0 rfl dX1_life_61 (rfl : 61 + 1 = 62) ?_
        refine hp_getR E hR in_X1 (hp_mono.c hm hc0) rfl 8 (Nat.le_of_ble_eq_true rfl) rfl q328 (fun _ h => h) dX1_life_62 (rfl : 62 + 3 = 65) ?_
        obtain ⟨hc19, h⟩ := h
        refine hp_fi (hp_rV E hR hl (m_J2_size G _ _ _ hc19 h) hc19 (ci := 16) rfl rfl q691 q545 q546 q78 q547 nf_J2_size ⟨Nat.le_of_ble_eq_true rfl, Nat.le_of_ble_eq_true rfl⟩ (rest := []) rfl (Nat.le_of_ble_eq_true rfl) dX1_life_65 ⟨Nat.le_of_ble_eq_true rfl, Nat.le_of_ble_eq_true rfl⟩) hR (rfl : 65 + 3 = 68) (fun z20 Sx H locs hq hR => ?_)
        obtain ⟨hSx, h⟩ := hq
        rw [hSx] at hR
        refine hp_iconst E (1 : Int32) (by decide) dX1_life_68 (rfl : 68 + 1 = 69) ?_
        refine hp_isub E dX1_life_69 (rfl : 69 + 1 = 70) ?_
        exact hp_iret E hR ⟨hm, h⟩ (Nat.le_of_ble_eq_true rfl) (Nat.le_of_ble_eq_true rfl) dX1_life_70
def wb_X1_aLife_32 (o : Nat) (a1 : Int32) (t0 : Nat) (S : hp_St) (Q : Nat → Prop) : Prop := Q t0
def wp_X1_aLife (o : Nat) (a1 : Int32) (S : hp_St) (Q : Nat → Prop) : Prop := (st_C S (st_R S o 8) = 17) ∧ wp_J2_size (st_R S o 8) S (fun z2 => wp_X1_in a1 (0 : Int32) (z2 - (1 : Int32)) S (fun z3 => (((z3 = 0) → wb_X1_aLife_32 o a1 0 S Q) ∧ ((¬ (z3 = 0)) → wp_J2_get (st_R S o 8) a1 S (fun z4 => (st_C S z4 = 10) ∧ wb_X1_aLife_32 o a1 z4 S Q)))))
theorem nf_X1_aLife : hp_nf yX1_aLife 1 = true := by decide +kernel
set_option maxHeartbeats 4000000 in
theorem m_X1_aLife {l : Launch} {B : Nat} {D : va_G} {s0 : State} {b0 : Nat} (G : hp_G l B D s0 b0) (o : Nat) (a1 : Int32) (Si : hp_St) (Q : Nat → Prop) (hc0 : st_C Si o = 1) (h : wp_X1_aLife o a1 Si Q) : hp_M l B D s0 yX1_aLife cX1_aLife 2 (some (.object "LifeRents$Life")) 5 320 0 0 [hp_v B o, .int a1] Si (hp_Qa B D s0 (fun r S' => S' = Si ∧ Q r)) := by
  refine hp_start G (by decide +kernel) rfl rfl (lv := [(0, hp_v B o), (1, .int a1)]) (by simp [lg_sl, hp_vc, hp_ci, hp_cj]) (by simp [lv_args, hp_vc, hp_ci, hp_cj]) ?_
  intro p e s m args below meth c E ls hl hR
  generalize hH : s.heap = H at hR ⊢
  generalize hLo : ([] : List Loc) = locs at hR ⊢
  have b32 : ∀ (t0 : Nat) (H : Heap) (locs : List Loc) (ls : Array Slot), wb_X1_aLife_32 o a1 t0 Si Q → lv_has ls 2 [] → hp_S B D s0 Si H locs → W p l e ({ frames := 5, cells := 0, slots := 0, locals := 320 } : Room) s m args below meth c H locs 0 0 (MQ below (hp_Qa B D s0 (fun r S' => S' = Si ∧ Q r)) args s 0 0 (fun q => B < q)) (F0 m 32 ls [hp_v B t0]) := by
    intro t0 H locs ls h hl hR
    unfold wb_X1_aLife_32 at h
    exact hp_aret E hR (Or.inl ⟨_, rfl⟩) ⟨rfl, h⟩ (Nat.le_of_ble_eq_true rfl) (Nat.le_of_ble_eq_true rfl) dX1_aLife_32
  unfold wp_X1_aLife at h
  refine hp_iload_n E hl 1 rfl 1 rfl dX1_aLife_0 (rfl : 0 + 1 = 1) ?_
  refine hp_iconst E (0 : Int32) (by decide) dX1_aLife_1 (rfl : 1 + 1 = 2) ?_
  refine hp_aload_n E hl 0 rfl 0 rfl dX1_aLife_2 (rfl : 2 + 1 = 3) ?_
  refine hp_getR E hR in_X1 hc0 rfl 8 (Nat.le_of_ble_eq_true rfl) rfl q328 (fun _ h => h) dX1_aLife_3 (rfl : 3 + 3 = 6) ?_
  obtain ⟨hc1, h⟩ := h
  refine hp_fi (hp_rV E hR hl (m_J2_size G _ _ _ hc1 h) hc1 (ci := 16) rfl rfl q691 q545 q546 q78 q547 nf_J2_size ⟨Nat.le_of_ble_eq_true rfl, Nat.le_of_ble_eq_true rfl⟩ (rest := [.int (0 : Int32), .int a1]) rfl (Nat.le_of_ble_eq_true rfl) dX1_aLife_6 ⟨Nat.le_of_ble_eq_true rfl, Nat.le_of_ble_eq_true rfl⟩) hR (rfl : 6 + 3 = 9) (fun z2 Sx H locs hq hR => ?_)
  obtain ⟨hSx, h⟩ := hq
  rw [hSx] at hR
  refine hp_iconst E (1 : Int32) (by decide) dX1_aLife_9 (rfl : 9 + 1 = 10) ?_
  refine hp_isub E dX1_aLife_10 (rfl : 10 + 1 = 11) ?_
  refine hp_fi (hp_rS E hR hl (m_X1_in G _ _ _ _ _ h) q394 q395 q73 q396 nf_X1_in ⟨Nat.le_of_ble_eq_true rfl, Nat.le_of_ble_eq_true rfl⟩ (rest := []) rfl (Nat.le_of_ble_eq_true rfl) dX1_aLife_11 ⟨Nat.le_of_ble_eq_true rfl, Nat.le_of_ble_eq_true rfl⟩) hR (rfl : 11 + 3 = 14) (fun z3 Sx H locs hq hR => ?_)
  obtain ⟨hSx, h⟩ := hq
  rw [hSx] at hR
  refine hp_if_eq E dX1_aLife_14 (rfl : 14 + 3 = 17) (tgt := 31) (by decide) (fun hb => ?_) (fun hb => ?_)
  · have h := h.1 hb
    refine hp_null E dX1_aLife_31 (rfl : 31 + 1 = 32) ?_
    exact b32 _ _ _ _ h (lv_sub hl [] rfl) hR
  · have h := h.2 hb
    refine hp_aload_n E hl 0 rfl 0 rfl dX1_aLife_17 (rfl : 17 + 1 = 18) ?_
    refine hp_getR E hR in_X1 hc0 rfl 8 (Nat.le_of_ble_eq_true rfl) rfl q328 (fun _ h => h) dX1_aLife_18 (rfl : 18 + 3 = 21) ?_
    refine hp_iload_n E hl 1 rfl 1 rfl dX1_aLife_21 (rfl : 21 + 1 = 22) ?_
    refine hp_fa (hp_rV E hR hl (m_J2_get G _ _ _ _ hc1 h) hc1 (ci := 16) rfl rfl q727 q728 q729 q78 q730 nf_J2_get ⟨Nat.le_of_ble_eq_true rfl, Nat.le_of_ble_eq_true rfl⟩ (rest := []) rfl (Nat.le_of_ble_eq_true rfl) dX1_aLife_22 ⟨Nat.le_of_ble_eq_true rfl, Nat.le_of_ble_eq_true rfl⟩) hR (rfl : 22 + 3 = 25) (fun z4 Sx H locs hq hR => ?_)
    obtain ⟨hSx, h⟩ := hq
    rw [hSx] at hR
    obtain ⟨hc5, h⟩ := h
    refine hp_castS E hR hc5 (ci := 9) rfl q692 dX1_aLife_25 (rfl : 25 + 3 = 28) ?_
    refine hp_goto E (tgt := 32) dX1_aLife_28 (by decide) ?_
    exact b32 _ _ _ _ h (lv_sub hl [] rfl) hR
def wp_X10_age (o : Nat) (a1 : Int32) (S : hp_St) (Q : Int32 → Prop) : Prop := Q ((a1 - (st_I S o 1)) / (2 : Int32))
theorem nf_X10_age : hp_nf yX10_age 1 = true := by decide +kernel
set_option maxHeartbeats 4000000 in
theorem m_X10_age {l : Launch} {B : Nat} {D : va_G} {s0 : State} {b0 : Nat} (G : hp_G l B D s0 b0) (o : Nat) (a1 : Int32) (Si : hp_St) (Q : Int32 → Prop) (hc0 : st_C Si o = 10) (h : wp_X10_age o a1 Si Q) : hp_M l B D s0 yX10_age cX10_age 2 (some .int) 2 128 0 0 [hp_v B o, .int a1] Si (hp_Qi B D s0 (fun r S' => S' = Si ∧ Q r)) := by
  refine hp_start G (by decide +kernel) rfl rfl (lv := [(0, hp_v B o), (1, .int a1)]) (by simp [lg_sl, hp_vc, hp_ci, hp_cj]) (by simp [lv_args, hp_vc, hp_ci, hp_cj]) ?_
  intro p e s m args below meth c E ls hl hR
  unfold wp_X10_age at h
  refine hp_iload_n E hl 1 rfl 1 rfl dX10_age_0 (rfl : 0 + 1 = 1) ?_
  refine hp_aload_n E hl 0 rfl 0 rfl dX10_age_1 (rfl : 1 + 1 = 2) ?_
  refine hp_getI E hR in_X10 hc0 rfl 1 (Nat.le_of_ble_eq_true rfl) rfl q703 (fun _ h => h) dX10_age_2 (rfl : 2 + 3 = 5) ?_
  refine hp_isub E dX10_age_5 (rfl : 5 + 1 = 6) ?_
  refine hp_iconst E (2 : Int32) (by decide) dX10_age_6 (rfl : 6 + 1 = 7) ?_
  refine hp_idiv E (by decide) dX10_age_7 (rfl : 7 + 1 = 8) ?_
  exact hp_iret E hR ⟨rfl, h⟩ (Nat.le_of_ble_eq_true rfl) (Nat.le_of_ble_eq_true rfl) dX10_age_8
def wb_X9_holds_74 (o : Nat) (a1 : Nat) (a2 : Int32) (a3 : Int32) (t0 : Int32) (S : hp_St) (Q : Int32 → Prop) : Prop := (t0 = 0 ∨ t0 = 1) ∧ Q t0
def wb_X9_holds_73 (o : Nat) (a1 : Nat) (a2 : Int32) (a3 : Int32) (S : hp_St) (Q : Int32 → Prop) : Prop := wb_X9_holds_74 o a1 a2 a3 (0 : Int32) S Q
def wb_X9_holds_62 (o : Nat) (a1 : Nat) (a2 : Int32) (a3 : Int32) (t0 : Int32) (t1 : Int32) (S : hp_St) (Q : Int32 → Prop) : Prop := (((((t0 >>> (t1 &&& 31)) &&& (1 : Int32)) = (1 : Int32)) → wb_X9_holds_74 o a1 a2 a3 (1 : Int32) S Q) ∧ ((¬ (((t0 >>> (t1 &&& 31)) &&& (1 : Int32)) = (1 : Int32))) → wb_X9_holds_73 o a1 a2 a3 S Q))
def wp_X9_holds (o : Nat) (a1 : Nat) (a2 : Int32) (a3 : Int32) (S : hp_St) (Q : Int32 → Prop) : Prop := (st_C S a1 = 10) ∧ wp_X10_age a1 a2 S (fun z2 => wp_X1_in z2 (st_I S o 2) (st_I S o 3) S (fun z3 => (((z3 = 0) → wb_X9_holds_73 o a1 a2 a3 S Q) ∧ ((¬ (z3 = 0)) → ((((((st_I S o 4) >>> ((st_I S a1 2) &&& 31)) &&& (1 : Int32)) = (1 : Int32)) → wp_X1_in a2 (st_I S o 5) (st_I S o 6) S (fun z4 => (((z4 = 0) → wb_X9_holds_73 o a1 a2 a3 S Q) ∧ ((¬ (z4 = 0)) → (((a3 = 0) → wb_X9_holds_62 o a1 a2 a3 (st_I S o 7) (0 : Int32) S Q) ∧ ((¬ (a3 = 0)) → wb_X9_holds_62 o a1 a2 a3 (st_I S o 7) (1 : Int32) S Q)))))) ∧ ((¬ ((((st_I S o 4) >>> ((st_I S a1 2) &&& 31)) &&& (1 : Int32)) = (1 : Int32))) → wb_X9_holds_73 o a1 a2 a3 S Q))))))
theorem nf_X9_holds : hp_nf yX9_holds 3 = true := by decide +kernel
set_option maxHeartbeats 4000000 in
theorem m_X9_holds {l : Launch} {B : Nat} {D : va_G} {s0 : State} {b0 : Nat} (G : hp_G l B D s0 b0) (o : Nat) (a1 : Nat) (a2 : Int32) (a3 : Int32) (Si : hp_St) (Q : Int32 → Prop) (hc0 : st_C Si o = 9) (h : wp_X9_holds o a1 a2 a3 Si Q) : hp_M l B D s0 yX9_holds cX9_holds 4 (some .boolean) 3 192 0 0 [hp_v B o, hp_v B a1, .int a2, .int a3] Si (hp_Qi B D s0 (fun r S' => S' = Si ∧ Q r)) := by
  refine hp_start G (by decide +kernel) rfl rfl (lv := [(0, hp_v B o), (1, hp_v B a1), (2, .int a2), (3, .int a3)]) (by simp [lg_sl, hp_vc, hp_ci, hp_cj]) (by simp [lv_args, hp_vc, hp_ci, hp_cj]) ?_
  intro p e s m args below meth c E ls hl hR
  generalize hH : s.heap = H at hR ⊢
  generalize hLo : ([] : List Loc) = locs at hR ⊢
  have b74 : ∀ (t0 : Int32) (H : Heap) (locs : List Loc) (ls : Array Slot), wb_X9_holds_74 o a1 a2 a3 t0 Si Q → lv_has ls 4 [] → hp_S B D s0 Si H locs → W p l e ({ frames := 3, cells := 0, slots := 0, locals := 192 } : Room) s m args below meth c H locs 0 0 (MQ below (hp_Qi B D s0 (fun r S' => S' = Si ∧ Q r)) args s 0 0 (fun q => B < q)) (F0 m 74 ls [.int t0]) := by
    intro t0 H locs ls h hl hR
    unfold wb_X9_holds_74 at h
    obtain ⟨hz7401, h⟩ := h
    exact hp_zret E hR hz7401 ⟨rfl, h⟩ (Nat.le_of_ble_eq_true rfl) (Nat.le_of_ble_eq_true rfl) dX9_holds_74
  have b73 : ∀ (H : Heap) (locs : List Loc) (ls : Array Slot), wb_X9_holds_73 o a1 a2 a3 Si Q → lv_has ls 4 [] → hp_S B D s0 Si H locs → W p l e ({ frames := 3, cells := 0, slots := 0, locals := 192 } : Room) s m args below meth c H locs 0 0 (MQ below (hp_Qi B D s0 (fun r S' => S' = Si ∧ Q r)) args s 0 0 (fun q => B < q)) (F0 m 73 ls []) := by
    intro  H locs ls h hl hR
    unfold wb_X9_holds_73 at h
    refine hp_iconst E (0 : Int32) (by decide) dX9_holds_73 (rfl : 73 + 1 = 74) ?_
    exact b74 _ _ _ _ h hl hR
  have b62 : ∀ (t0 : Int32) (t1 : Int32) (H : Heap) (locs : List Loc) (ls : Array Slot), wb_X9_holds_62 o a1 a2 a3 t0 t1 Si Q → lv_has ls 4 [] → hp_S B D s0 Si H locs → W p l e ({ frames := 3, cells := 0, slots := 0, locals := 192 } : Room) s m args below meth c H locs 0 0 (MQ below (hp_Qi B D s0 (fun r S' => S' = Si ∧ Q r)) args s 0 0 (fun q => B < q)) (F0 m 62 ls [.int t1, .int t0]) := by
    intro t0 t1 H locs ls h hl hR
    unfold wb_X9_holds_62 at h
    refine hp_ishr E dX9_holds_62 (rfl : 62 + 1 = 63) ?_
    refine hp_iconst E (1 : Int32) (by decide) dX9_holds_63 (rfl : 63 + 1 = 64) ?_
    refine hp_iand E dX9_holds_64 (rfl : 64 + 1 = 65) ?_
    refine hp_iconst E (1 : Int32) (by decide) dX9_holds_65 (rfl : 65 + 1 = 66) ?_
    refine hp_icmp_ne E dX9_holds_66 (rfl : 66 + 3 = 69) (tgt := 73) (by decide) (fun hb => ?_) (fun hb => ?_)
    · have h := h.1 hb
      refine hp_iconst E (1 : Int32) (by decide) dX9_holds_69 (rfl : 69 + 1 = 70) ?_
      refine hp_goto E (tgt := 74) dX9_holds_70 (by decide) ?_
      exact b74 _ _ _ _ h hl hR
    · have h := h.2 hb
      exact b73 _ _ _ h hl hR
  unfold wp_X9_holds at h
  refine hp_aload_n E hl 1 rfl 1 rfl dX9_holds_0 (rfl : 0 + 1 = 1) ?_
  refine hp_iload_n E hl 2 rfl 2 rfl dX9_holds_1 (rfl : 1 + 1 = 2) ?_
  obtain ⟨hc1, h⟩ := h
  refine hp_fi (hp_rV E hR hl (m_X10_age G _ _ _ _ hc1 h) hc1 (ci := 9) rfl rfl q754 q755 q756 q95 q757 nf_X10_age ⟨Nat.le_of_ble_eq_true rfl, Nat.le_of_ble_eq_true rfl⟩ (rest := []) rfl (Nat.le_of_ble_eq_true rfl) dX9_holds_2 ⟨Nat.le_of_ble_eq_true rfl, Nat.le_of_ble_eq_true rfl⟩) hR (rfl : 2 + 3 = 5) (fun z2 Sx H locs hq hR => ?_)
  obtain ⟨hSx, h⟩ := hq
  rw [hSx] at hR
  refine hp_aload_n E hl 0 rfl 0 rfl dX9_holds_5 (rfl : 5 + 1 = 6) ?_
  refine hp_getI E hR in_X9 hc0 rfl 2 (Nat.le_of_ble_eq_true rfl) rfl q567 (fun _ h => h) dX9_holds_6 (rfl : 6 + 3 = 9) ?_
  refine hp_aload_n E hl 0 rfl 0 rfl dX9_holds_9 (rfl : 9 + 1 = 10) ?_
  refine hp_getI E hR in_X9 hc0 rfl 3 (Nat.le_of_ble_eq_true rfl) rfl q569 (fun _ h => h) dX9_holds_10 (rfl : 10 + 3 = 13) ?_
  refine hp_fi (hp_rSN E hR hl (m_X1_in G _ _ _ _ _ h) q758 q395 q73 q396 nf_X1_in ⟨Nat.le_of_ble_eq_true rfl, Nat.le_of_ble_eq_true rfl⟩ (rest := []) rfl (Nat.le_of_ble_eq_true rfl) dX9_holds_13 ⟨Nat.le_of_ble_eq_true rfl, Nat.le_of_ble_eq_true rfl⟩) hR (rfl : 13 + 3 = 16) (fun z3 Sx H locs hq hR => ?_)
  obtain ⟨hSx, h⟩ := hq
  rw [hSx] at hR
  refine hp_if_eq E dX9_holds_16 (rfl : 16 + 3 = 19) (tgt := 73) (by decide) (fun hb => ?_) (fun hb => ?_)
  · have h := h.1 hb
    exact b73 _ _ _ h (lv_sub hl [] rfl) hR
  · have h := h.2 hb
    refine hp_aload_n E hl 0 rfl 0 rfl dX9_holds_19 (rfl : 19 + 1 = 20) ?_
    refine hp_getI E hR in_X9 hc0 rfl 4 (Nat.le_of_ble_eq_true rfl) rfl q571 (fun _ h => h) dX9_holds_20 (rfl : 20 + 3 = 23) ?_
    refine hp_aload_n E hl 1 rfl 1 rfl dX9_holds_23 (rfl : 23 + 1 = 24) ?_
    refine hp_getIN E hR in_X10 hc1 rfl 2 (Nat.le_of_ble_eq_true rfl) rfl q708 (fun _ h => h) dX9_holds_24 (rfl : 24 + 3 = 27) ?_
    refine hp_ishr E dX9_holds_27 (rfl : 27 + 1 = 28) ?_
    refine hp_iconst E (1 : Int32) (by decide) dX9_holds_28 (rfl : 28 + 1 = 29) ?_
    refine hp_iand E dX9_holds_29 (rfl : 29 + 1 = 30) ?_
    refine hp_iconst E (1 : Int32) (by decide) dX9_holds_30 (rfl : 30 + 1 = 31) ?_
    refine hp_icmp_ne E dX9_holds_31 (rfl : 31 + 3 = 34) (tgt := 73) (by decide) (fun hb => ?_) (fun hb => ?_)
    · have h := h.1 hb
      refine hp_iload_n E hl 2 rfl 2 rfl dX9_holds_34 (rfl : 34 + 1 = 35) ?_
      refine hp_aload_n E hl 0 rfl 0 rfl dX9_holds_35 (rfl : 35 + 1 = 36) ?_
      refine hp_getI E hR in_X9 hc0 rfl 5 (Nat.le_of_ble_eq_true rfl) rfl q573 (fun _ h => h) dX9_holds_36 (rfl : 36 + 3 = 39) ?_
      refine hp_aload_n E hl 0 rfl 0 rfl dX9_holds_39 (rfl : 39 + 1 = 40) ?_
      refine hp_getI E hR in_X9 hc0 rfl 6 (Nat.le_of_ble_eq_true rfl) rfl q575 (fun _ h => h) dX9_holds_40 (rfl : 40 + 3 = 43) ?_
      refine hp_fi (hp_rSN E hR hl (m_X1_in G _ _ _ _ _ h) q758 q395 q73 q396 nf_X1_in ⟨Nat.le_of_ble_eq_true rfl, Nat.le_of_ble_eq_true rfl⟩ (rest := []) rfl (Nat.le_of_ble_eq_true rfl) dX9_holds_43 ⟨Nat.le_of_ble_eq_true rfl, Nat.le_of_ble_eq_true rfl⟩) hR (rfl : 43 + 3 = 46) (fun z4 Sx H locs hq hR => ?_)
      obtain ⟨hSx, h⟩ := hq
      rw [hSx] at hR
      refine hp_if_eq E dX9_holds_46 (rfl : 46 + 3 = 49) (tgt := 73) (by decide) (fun hb => ?_) (fun hb => ?_)
      · have h := h.1 hb
        exact b73 _ _ _ h (lv_sub hl [] rfl) hR
      · have h := h.2 hb
        refine hp_aload_n E hl 0 rfl 0 rfl dX9_holds_49 (rfl : 49 + 1 = 50) ?_
        refine hp_getI E hR in_X9 hc0 rfl 7 (Nat.le_of_ble_eq_true rfl) rfl q577 (fun _ h => h) dX9_holds_50 (rfl : 50 + 3 = 53) ?_
        refine hp_iload_n E hl 3 rfl 3 rfl dX9_holds_53 (rfl : 53 + 1 = 54) ?_
        refine hp_if_eq E dX9_holds_54 (rfl : 54 + 3 = 57) (tgt := 61) (by decide) (fun hb => ?_) (fun hb => ?_)
        · have h := h.1 hb
          refine hp_iconst E (0 : Int32) (by decide) dX9_holds_61 (rfl : 61 + 1 = 62) ?_
          exact b62 _ _ _ _ _ h (lv_sub hl [] rfl) hR
        · have h := h.2 hb
          refine hp_iconst E (1 : Int32) (by decide) dX9_holds_57 (rfl : 57 + 1 = 58) ?_
          refine hp_goto E (tgt := 62) dX9_holds_58 (by decide) ?_
          exact b62 _ _ _ _ _ h (lv_sub hl [] rfl) hR
    · have h := h.2 hb
      exact b73 _ _ _ h (lv_sub hl [] rfl) hR
def wb_X3_latest_90 (o : Nat) (a1 : Int32) (a2 : Int32) (a3 : Nat) (a4 : Int32) (a5 : Int32) (v6 : Int32) (S : hp_St) (K11 : Int32 → Prop) (Q : Nat → Prop) : Prop := K11 (v6 + (-1 : Int32))
def wb_X3_latest_54 (o : Nat) (a1 : Int32) (a2 : Int32) (a3 : Nat) (a4 : Int32) (a5 : Int32) (v6 : Int32) (S : hp_St) (K11 : Int32 → Prop) (Q : Nat → Prop) : Prop := (st_C S (st_R S o 0) = 17) ∧ wp_J2_get (st_R S o 0) v6 S (fun z5402 => (st_C S z5402 = 9) ∧ wp_X9_holds z5402 a3 a4 a5 S (fun z5404 => (((z5404 = 0) → wb_X3_latest_90 o a1 a2 a3 a4 a5 v6 S K11 Q) ∧ ((¬ (z5404 = 0)) → wp_J2_get (st_R S o 0) v6 S (fun z5405 => (st_C S z5405 = 9) ∧ Q z5405)))))
def wb_X3_latest_11 (o : Nat) (a1 : Int32) (a2 : Int32) (a3 : Nat) (a4 : Int32) (a5 : Int32) (v6 : Int32) (S : hp_St) (K11 : Int32 → Prop) (Q : Nat → Prop) : Prop := (((v6 < 0) → Q 0) ∧ ((¬ (v6 < 0)) → (st_C S (st_R S o 0) = 17) ∧ wp_J2_get (st_R S o 0) v6 S (fun z1102 => (st_C S z1102 = 9) ∧ ((((st_I S z1102 0) = a1) → wb_X3_latest_54 o a1 a2 a3 a4 a5 v6 S K11 Q) ∧ ((¬ ((st_I S z1102 0) = a1)) → wp_J2_get (st_R S o 0) v6 S (fun z1104 => (st_C S z1104 = 9) ∧ ((((st_I S z1104 0) = a2) → wb_X3_latest_54 o a1 a2 a3 a4 a5 v6 S K11 Q) ∧ ((¬ ((st_I S z1104 0) = a2)) → wb_X3_latest_90 o a1 a2 a3 a4 a5 v6 S K11 Q))))))))
def wl_X3_latest_11 (o : Nat) (a1 : Int32) (a2 : Int32) (a3 : Nat) (a4 : Int32) (a5 : Int32) (v6 : Int32) (S : hp_St) (Q : Nat → Prop) : Prop := ∃ (I : Int32 → Prop) (μ : Int32 → Nat), I v6 ∧ ∀ (v6 : Int32), I v6 → wb_X3_latest_11 o a1 a2 a3 a4 a5 v6 S (fun v6' => I v6' ∧ μ v6' < μ v6) Q
def wp_X3_latest (o : Nat) (a1 : Int32) (a2 : Int32) (a3 : Nat) (a4 : Int32) (a5 : Int32) (S : hp_St) (Q : Nat → Prop) : Prop := (st_C S (st_R S o 0) = 17) ∧ wp_J2_size (st_R S o 0) S (fun z2 => wl_X3_latest_11 o a1 a2 a3 a4 a5 (z2 - (1 : Int32)) S Q)
theorem nf_X3_latest : hp_nf yX3_latest 5 = true := by decide +kernel
set_option maxHeartbeats 4000000 in
theorem m_X3_latest {l : Launch} {B : Nat} {D : va_G} {s0 : State} {b0 : Nat} (G : hp_G l B D s0 b0) (o : Nat) (a1 : Int32) (a2 : Int32) (a3 : Nat) (a4 : Int32) (a5 : Int32) (Si : hp_St) (Q : Nat → Prop) (hc0 : st_C Si o = 3) (h : wp_X3_latest o a1 a2 a3 a4 a5 Si Q) : hp_M l B D s0 yX3_latest cX3_latest 7 (some (.object "LifeRents$Line")) 5 320 0 0 [hp_v B o, .int a1, .int a2, hp_v B a3, .int a4, .int a5] Si (hp_Qa B D s0 (fun r S' => S' = Si ∧ Q r)) := by
  refine hp_start G (by decide +kernel) rfl rfl (lv := [(0, hp_v B o), (1, .int a1), (2, .int a2), (3, hp_v B a3), (4, .int a4), (5, .int a5)]) (by simp [lg_sl, hp_vc, hp_ci, hp_cj]) (by simp [lv_args, hp_vc, hp_ci, hp_cj]) ?_
  intro p e s m args below meth c E ls hl hR
  generalize hH : s.heap = H at hR ⊢
  generalize hLo : ([] : List Loc) = locs at hR ⊢
  have b11 : ∀ (v6 : Int32) (H : Heap) (locs : List Loc) (ls : Array Slot), wl_X3_latest_11 o a1 a2 a3 a4 a5 v6 Si Q → lv_has ls 7 [(0, hp_v B o), (1, .int a1), (2, .int a2), (3, hp_v B a3), (4, .int a4), (5, .int a5), (6, .int v6)] → hp_S B D s0 Si H locs → W p l e ({ frames := 5, cells := 0, slots := 0, locals := 320 } : Room) s m args below meth c H locs 0 0 (MQ below (hp_Qa B D s0 (fun r S' => S' = Si ∧ Q r)) args s 0 0 (fun q => B < q)) (F0 m 11 ls []) := by
    intro v6 H locs ls h hl hR
    obtain ⟨I11, μ11, hI, hst⟩ := h
    have key11 : ∀ (N : Nat) (v6 : Int32) (H : Heap) (locs : List Loc) (ls : Array Slot), μ11 v6 < N → I11 v6 → lv_has ls 7 [(0, hp_v B o), (1, .int a1), (2, .int a2), (3, hp_v B a3), (4, .int a4), (5, .int a5), (6, .int v6)] → hp_S B D s0 Si H locs → W p l e ({ frames := 5, cells := 0, slots := 0, locals := 320 } : Room) s m args below meth c H locs 0 0 (MQ below (hp_Qa B D s0 (fun r S' => S' = Si ∧ Q r)) args s 0 0 (fun q => B < q)) (F0 m 11 ls []) := by
      intro N
      induction N with
      | zero =>
        intro v6 H locs ls hN
        exact absurd hN (Nat.not_lt_zero _)
      | succ N ih11 =>
        intro v6 H locs ls hN hI hl hR
        have h := hst v6 hI
        obtain ⟨K11, hKe11⟩ : ∃ K : Int32 → Prop, K = (fun v6' => I11 v6' ∧ μ11 v6' < μ11 v6) := ⟨_, rfl⟩
        rw [← hKe11] at h
        have hK11 : ∀ (v6' : Int32) (H : Heap) (locs : List Loc) (ls : Array Slot), K11 v6' → lv_has ls 7 [(0, hp_v B o), (1, .int a1), (2, .int a2), (3, hp_v B a3), (4, .int a4), (5, .int a5), (6, .int (v6'))] → hp_S B D s0 Si H locs → W p l e ({ frames := 5, cells := 0, slots := 0, locals := 320 } : Room) s m args below meth c H locs 0 0 (MQ below (hp_Qa B D s0 (fun r S' => S' = Si ∧ Q r)) args s 0 0 (fun q => B < q)) (F0 m 11 ls []) := by
          intro v6' H locs ls hI hl hR
          rw [hKe11] at hI
          exact ih11 v6' H locs ls (Nat.lt_of_lt_of_le hI.2 (Nat.le_of_lt_succ hN)) hI.1 hl hR
        have b90 : ∀ (v6 : Int32) (H : Heap) (locs : List Loc) (ls : Array Slot), wb_X3_latest_90 o a1 a2 a3 a4 a5 v6 Si K11 Q → lv_has ls 7 [(0, hp_v B o), (1, .int a1), (2, .int a2), (3, hp_v B a3), (4, .int a4), (5, .int a5), (6, .int v6)] → hp_S B D s0 Si H locs → W p l e ({ frames := 5, cells := 0, slots := 0, locals := 320 } : Room) s m args below meth c H locs 0 0 (MQ below (hp_Qa B D s0 (fun r S' => S' = Si ∧ Q r)) args s 0 0 (fun q => B < q)) (F0 m 90 ls []) := by
          intro v6 H locs ls h hl hR
          unfold wb_X3_latest_90 at h
          refine hp_iinc E hl (v6 + (-1 : Int32)) 6 (lv' := [(0, hp_v B o), (1, .int a1), (2, .int a2), (3, hp_v B a3), (4, .int a4), (5, .int a5)]) dX3_latest_90 (rfl : 90 + 3 = 93) rfl (by first | rfl | (congr 1)) (by decide) rfl (fun ls hl => ?_)
          refine hp_goto E (tgt := 11) dX3_latest_93 (by decide) ?_
          exact hK11 _ _ _ _ h (lv_sub hl [1, 2, 3, 4, 5, 6, 0] rfl) hR
        have b54 : ∀ (v6 : Int32) (H : Heap) (locs : List Loc) (ls : Array Slot), wb_X3_latest_54 o a1 a2 a3 a4 a5 v6 Si K11 Q → lv_has ls 7 [(0, hp_v B o), (1, .int a1), (2, .int a2), (3, hp_v B a3), (4, .int a4), (5, .int a5), (6, .int v6)] → hp_S B D s0 Si H locs → W p l e ({ frames := 5, cells := 0, slots := 0, locals := 320 } : Room) s m args below meth c H locs 0 0 (MQ below (hp_Qa B D s0 (fun r S' => S' = Si ∧ Q r)) args s 0 0 (fun q => B < q)) (F0 m 54 ls []) := by
          intro v6 H locs ls h hl hR
          unfold wb_X3_latest_54 at h
          refine hp_aload_n E hl 0 rfl 0 rfl dX3_latest_54 (rfl : 54 + 1 = 55) ?_
          refine hp_getR E hR in_X3 hc0 rfl 0 (Nat.le_of_ble_eq_true rfl) rfl q183 (fun _ h => h) dX3_latest_55 (rfl : 55 + 3 = 58) ?_
          refine hp_iload E hl 6 rfl dX3_latest_58 (rfl : 58 + 2 = 60) ?_
          obtain ⟨hc5401, h⟩ := h
          refine hp_fa (hp_rV E hR hl (m_J2_get G _ _ _ _ hc5401 h) hc5401 (ci := 16) rfl rfl q748 q728 q729 q78 q730 nf_J2_get ⟨Nat.le_of_ble_eq_true rfl, Nat.le_of_ble_eq_true rfl⟩ (rest := []) rfl (Nat.le_of_ble_eq_true rfl) dX3_latest_60 ⟨Nat.le_of_ble_eq_true rfl, Nat.le_of_ble_eq_true rfl⟩) hR (rfl : 60 + 3 = 63) (fun z5402 Sx H locs hq hR => ?_)
          obtain ⟨hSx, h⟩ := hq
          rw [hSx] at hR
          obtain ⟨hc5403, h⟩ := h
          refine hp_castS E hR hc5403 (ci := 8) rfl q749 dX3_latest_63 (rfl : 63 + 3 = 66) ?_
          refine hp_aload_n E hl 3 rfl 3 rfl dX3_latest_66 (rfl : 66 + 1 = 67) ?_
          refine hp_iload E hl 4 rfl dX3_latest_67 (rfl : 67 + 2 = 69) ?_
          refine hp_iload E hl 5 rfl dX3_latest_69 (rfl : 69 + 2 = 71) ?_
          refine hp_fi (hp_rV E hR hl (m_X9_holds G _ _ _ _ _ _ hc5403 h) hc5403 (ci := 8) rfl rfl q750 q751 q752 q90 q753 nf_X9_holds ⟨Nat.le_of_ble_eq_true rfl, Nat.le_of_ble_eq_true rfl⟩ (rest := []) rfl (Nat.le_of_ble_eq_true rfl) dX3_latest_71 ⟨Nat.le_of_ble_eq_true rfl, Nat.le_of_ble_eq_true rfl⟩) hR (rfl : 71 + 3 = 74) (fun z5404 Sx H locs hq hR => ?_)
          obtain ⟨hSx, h⟩ := hq
          rw [hSx] at hR
          refine hp_if_eq E dX3_latest_74 (rfl : 74 + 3 = 77) (tgt := 90) (by decide) (fun hb => ?_) (fun hb => ?_)
          · have h := h.1 hb
            exact b90 _ _ _ _ h hl hR
          · have h := h.2 hb
            refine hp_aload_n E hl 0 rfl 0 rfl dX3_latest_77 (rfl : 77 + 1 = 78) ?_
            refine hp_getR E hR in_X3 hc0 rfl 0 (Nat.le_of_ble_eq_true rfl) rfl q183 (fun _ h => h) dX3_latest_78 (rfl : 78 + 3 = 81) ?_
            refine hp_iload E hl 6 rfl dX3_latest_81 (rfl : 81 + 2 = 83) ?_
            refine hp_fa (hp_rV E hR hl (m_J2_get G _ _ _ _ hc5401 h) hc5401 (ci := 16) rfl rfl q748 q728 q729 q78 q730 nf_J2_get ⟨Nat.le_of_ble_eq_true rfl, Nat.le_of_ble_eq_true rfl⟩ (rest := []) rfl (Nat.le_of_ble_eq_true rfl) dX3_latest_83 ⟨Nat.le_of_ble_eq_true rfl, Nat.le_of_ble_eq_true rfl⟩) hR (rfl : 83 + 3 = 86) (fun z5405 Sx H locs hq hR => ?_)
            obtain ⟨hSx, h⟩ := hq
            rw [hSx] at hR
            obtain ⟨hc5406, h⟩ := h
            refine hp_castS E hR hc5406 (ci := 8) rfl q749 dX3_latest_86 (rfl : 86 + 3 = 89) ?_
            exact hp_aret E hR (Or.inl ⟨_, rfl⟩) ⟨rfl, h⟩ (Nat.le_of_ble_eq_true rfl) (Nat.le_of_ble_eq_true rfl) dX3_latest_89
        unfold wb_X3_latest_11 at h
        refine hp_iload E hl 6 rfl dX3_latest_11 (rfl : 11 + 2 = 13) ?_
        refine hp_if_lt E dX3_latest_13 (rfl : 13 + 3 = 16) (tgt := 96) (by decide) (fun hb => ?_) (fun hb => ?_)
        · have h := h.1 hb
          refine hp_null E dX3_latest_96 (rfl : 96 + 1 = 97) ?_
          exact hp_aret E hR (Or.inl ⟨_, rfl⟩) ⟨rfl, h⟩ (Nat.le_of_ble_eq_true rfl) (Nat.le_of_ble_eq_true rfl) dX3_latest_97
        · have h := h.2 hb
          refine hp_aload_n E hl 0 rfl 0 rfl dX3_latest_16 (rfl : 16 + 1 = 17) ?_
          refine hp_getR E hR in_X3 hc0 rfl 0 (Nat.le_of_ble_eq_true rfl) rfl q183 (fun _ h => h) dX3_latest_17 (rfl : 17 + 3 = 20) ?_
          refine hp_iload E hl 6 rfl dX3_latest_20 (rfl : 20 + 2 = 22) ?_
          obtain ⟨hc1101, h⟩ := h
          refine hp_fa (hp_rV E hR hl (m_J2_get G _ _ _ _ hc1101 h) hc1101 (ci := 16) rfl rfl q748 q728 q729 q78 q730 nf_J2_get ⟨Nat.le_of_ble_eq_true rfl, Nat.le_of_ble_eq_true rfl⟩ (rest := []) rfl (Nat.le_of_ble_eq_true rfl) dX3_latest_22 ⟨Nat.le_of_ble_eq_true rfl, Nat.le_of_ble_eq_true rfl⟩) hR (rfl : 22 + 3 = 25) (fun z1102 Sx H locs hq hR => ?_)
          obtain ⟨hSx, h⟩ := hq
          rw [hSx] at hR
          obtain ⟨hc1103, h⟩ := h
          refine hp_castS E hR hc1103 (ci := 8) rfl q749 dX3_latest_25 (rfl : 25 + 3 = 28) ?_
          refine hp_getIN E hR in_X9 hc1103 rfl 0 (Nat.le_of_ble_eq_true rfl) rfl q564 (fun _ h => h) dX3_latest_28 (rfl : 28 + 3 = 31) ?_
          refine hp_iload_n E hl 1 rfl 1 rfl dX3_latest_31 (rfl : 31 + 1 = 32) ?_
          refine hp_icmp_eq E dX3_latest_32 (rfl : 32 + 3 = 35) (tgt := 54) (by decide) (fun hb => ?_) (fun hb => ?_)
          · have h := h.1 hb
            exact b54 _ _ _ _ h hl hR
          · have h := h.2 hb
            refine hp_aload_n E hl 0 rfl 0 rfl dX3_latest_35 (rfl : 35 + 1 = 36) ?_
            refine hp_getR E hR in_X3 hc0 rfl 0 (Nat.le_of_ble_eq_true rfl) rfl q183 (fun _ h => h) dX3_latest_36 (rfl : 36 + 3 = 39) ?_
            refine hp_iload E hl 6 rfl dX3_latest_39 (rfl : 39 + 2 = 41) ?_
            refine hp_fa (hp_rV E hR hl (m_J2_get G _ _ _ _ hc1101 h) hc1101 (ci := 16) rfl rfl q748 q728 q729 q78 q730 nf_J2_get ⟨Nat.le_of_ble_eq_true rfl, Nat.le_of_ble_eq_true rfl⟩ (rest := []) rfl (Nat.le_of_ble_eq_true rfl) dX3_latest_41 ⟨Nat.le_of_ble_eq_true rfl, Nat.le_of_ble_eq_true rfl⟩) hR (rfl : 41 + 3 = 44) (fun z1104 Sx H locs hq hR => ?_)
            obtain ⟨hSx, h⟩ := hq
            rw [hSx] at hR
            obtain ⟨hc1105, h⟩ := h
            refine hp_castS E hR hc1105 (ci := 8) rfl q749 dX3_latest_44 (rfl : 44 + 3 = 47) ?_
            refine hp_getIN E hR in_X9 hc1105 rfl 0 (Nat.le_of_ble_eq_true rfl) rfl q564 (fun _ h => h) dX3_latest_47 (rfl : 47 + 3 = 50) ?_
            refine hp_iload_n E hl 2 rfl 2 rfl dX3_latest_50 (rfl : 50 + 1 = 51) ?_
            refine hp_icmp_ne E dX3_latest_51 (rfl : 51 + 3 = 54) (tgt := 90) (by decide) (fun hb => ?_) (fun hb => ?_)
            · have h := h.1 hb
              exact b54 _ _ _ _ h hl hR
            · have h := h.2 hb
              exact b90 _ _ _ _ h hl hR
    exact key11 (μ11 v6 + 1) v6 H locs ls (Nat.lt_succ_self _) hI hl hR
  unfold wp_X3_latest at h
  refine hp_aload_n E hl 0 rfl 0 rfl dX3_latest_0 (rfl : 0 + 1 = 1) ?_
  refine hp_getR E hR in_X3 hc0 rfl 0 (Nat.le_of_ble_eq_true rfl) rfl q183 (fun _ h => h) dX3_latest_1 (rfl : 1 + 3 = 4) ?_
  obtain ⟨hc1, h⟩ := h
  refine hp_fi (hp_rV E hR hl (m_J2_size G _ _ _ hc1 h) hc1 (ci := 16) rfl rfl q747 q545 q546 q78 q547 nf_J2_size ⟨Nat.le_of_ble_eq_true rfl, Nat.le_of_ble_eq_true rfl⟩ (rest := []) rfl (Nat.le_of_ble_eq_true rfl) dX3_latest_4 ⟨Nat.le_of_ble_eq_true rfl, Nat.le_of_ble_eq_true rfl⟩) hR (rfl : 4 + 3 = 7) (fun z2 Sx H locs hq hR => ?_)
  obtain ⟨hSx, h⟩ := hq
  rw [hSx] at hR
  refine hp_iconst E (1 : Int32) (by decide) dX3_latest_7 (rfl : 7 + 1 = 8) ?_
  refine hp_isub E dX3_latest_8 (rfl : 8 + 1 = 9) ?_
  refine hp_istore E hl 6 (lv' := [(0, hp_v B o), (1, .int a1), (2, .int a2), (3, hp_v B a3), (4, .int a4), (5, .int a5)]) dX3_latest_9 (rfl : 9 + 2 = 11) (by decide) rfl (fun ls hl => ?_)
  exact b11 _ _ _ _ h (lv_sub hl [1, 2, 3, 4, 5, 6, 0] rfl) hR
def wb_X3_may_29 (o : Nat) (a1 : Nat) (a2 : Int32) (a3 : Int32) (t0 : Int32) (S : hp_St) (Q : Int32 → Prop) : Prop := (t0 = 0 ∨ t0 = 1) ∧ Q t0
def wb_X3_may_24 (o : Nat) (a1 : Nat) (a2 : Int32) (a3 : Int32) (S : hp_St) (Q : Int32 → Prop) : Prop := wb_X3_may_29 o a1 a2 a3 (1 : Int32) S Q
def wp_X3_may (o : Nat) (a1 : Nat) (a2 : Int32) (a3 : Int32) (S : hp_St) (Q : Int32 → Prop) : Prop := wp_X3_latest o (0 : Int32) (1 : Int32) a1 a2 a3 S (fun z1 => (((z1 = 0) → wb_X3_may_24 o a1 a2 a3 S Q) ∧ ((¬ (z1 = 0)) → (st_C S z1 = 9) ∧ ((((st_I S z1 0) = 0) → wb_X3_may_24 o a1 a2 a3 S Q) ∧ ((¬ ((st_I S z1 0) = 0)) → wb_X3_may_29 o a1 a2 a3 (0 : Int32) S Q)))))
theorem nf_X3_may : hp_nf yX3_may 3 = true := by decide +kernel
set_option maxHeartbeats 4000000 in
theorem m_X3_may {l : Launch} {B : Nat} {D : va_G} {s0 : State} {b0 : Nat} (G : hp_G l B D s0 b0) (o : Nat) (a1 : Nat) (a2 : Int32) (a3 : Int32) (Si : hp_St) (Q : Int32 → Prop) (hc0 : st_C Si o = 3) (h : wp_X3_may o a1 a2 a3 Si Q) : hp_M l B D s0 yX3_may cX3_may 5 (some .boolean) 6 384 0 0 [hp_v B o, hp_v B a1, .int a2, .int a3] Si (hp_Qi B D s0 (fun r S' => S' = Si ∧ Q r)) := by
  refine hp_start G (by decide +kernel) rfl rfl (lv := [(0, hp_v B o), (1, hp_v B a1), (2, .int a2), (3, .int a3)]) (by simp [lg_sl, hp_vc, hp_ci, hp_cj]) (by simp [lv_args, hp_vc, hp_ci, hp_cj]) ?_
  intro p e s m args below meth c E ls hl hR
  generalize hH : s.heap = H at hR ⊢
  generalize hLo : ([] : List Loc) = locs at hR ⊢
  have b29 : ∀ (t0 : Int32) (H : Heap) (locs : List Loc) (ls : Array Slot), wb_X3_may_29 o a1 a2 a3 t0 Si Q → lv_has ls 5 [] → hp_S B D s0 Si H locs → W p l e ({ frames := 6, cells := 0, slots := 0, locals := 384 } : Room) s m args below meth c H locs 0 0 (MQ below (hp_Qi B D s0 (fun r S' => S' = Si ∧ Q r)) args s 0 0 (fun q => B < q)) (F0 m 29 ls [.int t0]) := by
    intro t0 H locs ls h hl hR
    unfold wb_X3_may_29 at h
    obtain ⟨hz2901, h⟩ := h
    exact hp_zret E hR hz2901 ⟨rfl, h⟩ (Nat.le_of_ble_eq_true rfl) (Nat.le_of_ble_eq_true rfl) dX3_may_29
  have b24 : ∀ (H : Heap) (locs : List Loc) (ls : Array Slot), wb_X3_may_24 o a1 a2 a3 Si Q → lv_has ls 5 [] → hp_S B D s0 Si H locs → W p l e ({ frames := 6, cells := 0, slots := 0, locals := 384 } : Room) s m args below meth c H locs 0 0 (MQ below (hp_Qi B D s0 (fun r S' => S' = Si ∧ Q r)) args s 0 0 (fun q => B < q)) (F0 m 24 ls []) := by
    intro  H locs ls h hl hR
    unfold wb_X3_may_24 at h
    refine hp_iconst E (1 : Int32) (by decide) dX3_may_24 (rfl : 24 + 1 = 25) ?_
    refine hp_goto E (tgt := 29) dX3_may_25 (by decide) ?_
    exact b29 _ _ _ _ h hl hR
  unfold wp_X3_may at h
  refine hp_aload_n E hl 0 rfl 0 rfl dX3_may_0 (rfl : 0 + 1 = 1) ?_
  refine hp_iconst E (0 : Int32) (by decide) dX3_may_1 (rfl : 1 + 1 = 2) ?_
  refine hp_iconst E (1 : Int32) (by decide) dX3_may_2 (rfl : 2 + 1 = 3) ?_
  refine hp_aload_n E hl 1 rfl 1 rfl dX3_may_3 (rfl : 3 + 1 = 4) ?_
  refine hp_iload_n E hl 2 rfl 2 rfl dX3_may_4 (rfl : 4 + 1 = 5) ?_
  refine hp_iload_n E hl 3 rfl 3 rfl dX3_may_5 (rfl : 5 + 1 = 6) ?_
  refine hp_fa (hp_rV E hR hl (m_X3_latest G _ _ _ _ _ _ _ _ hc0 h) hc0 (ci := 2) rfl rfl q743 q744 q745 q75 q746 nf_X3_latest ⟨Nat.le_of_ble_eq_true rfl, Nat.le_of_ble_eq_true rfl⟩ (rest := []) rfl (Nat.le_of_ble_eq_true rfl) dX3_may_6 ⟨Nat.le_of_ble_eq_true rfl, Nat.le_of_ble_eq_true rfl⟩) hR (rfl : 6 + 3 = 9) (fun z1 Sx H locs hq hR => ?_)
  obtain ⟨hSx, h⟩ := hq
  rw [hSx] at hR
  refine hp_astore E hl 4 (lv' := [(0, hp_v B o), (1, hp_v B a1), (2, .int a2), (3, .int a3)]) dX3_may_9 (rfl : 9 + 2 = 11) (by decide) rfl (fun ls hl => ?_)
  refine hp_aload E hl 0 rfl dX3_may_11 (rfl : 11 + 2 = 13) ?_
  refine hp_ifnull E dX3_may_13 (rfl : 13 + 3 = 16) (tgt := 24) (by decide) (fun hb => ?_) (fun hb => ?_)
  · have h := h.1 hb
    exact b24 _ _ _ h (lv_sub hl [] rfl) hR
  · have h := h.2 hb
    refine hp_aload E hl 0 rfl dX3_may_16 (rfl : 16 + 2 = 18) ?_
    obtain ⟨hc2, h⟩ := h
    refine hp_getIN E hR in_X9 hc2 rfl 0 (Nat.le_of_ble_eq_true rfl) rfl q564 (fun _ h => h) dX3_may_18 (rfl : 18 + 3 = 21) ?_
    refine hp_if_ne E dX3_may_21 (rfl : 21 + 3 = 24) (tgt := 28) (by decide) (fun hb => ?_) (fun hb => ?_)
    · have h := h.1 hb
      exact b24 _ _ _ h (lv_sub hl [] rfl) hR
    · have h := h.2 hb
      refine hp_iconst E (0 : Int32) (by decide) dX3_may_28 (rfl : 28 + 1 = 29) ?_
      exact b29 _ _ _ _ h (lv_sub hl [] rfl) hR
def wb_X3_price_26 (o : Nat) (a1 : Nat) (a2 : Int32) (a3 : Int32) (t0 : Int32) (S : hp_St) (Q : Int32 → Prop) : Prop := Q t0
def wp_X3_price (o : Nat) (a1 : Nat) (a2 : Int32) (a3 : Int32) (S : hp_St) (Q : Int32 → Prop) : Prop := wp_X3_latest o (2 : Int32) (2 : Int32) a1 a2 a3 S (fun z1 => (((z1 = 0) → wb_X3_price_26 o a1 a2 a3 (10 : Int32) S Q) ∧ ((¬ (z1 = 0)) → (st_C S z1 = 9) ∧ wb_X3_price_26 o a1 a2 a3 (st_I S z1 1) S Q)))
theorem nf_X3_price : hp_nf yX3_price 3 = true := by decide +kernel
set_option maxHeartbeats 4000000 in
theorem m_X3_price {l : Launch} {B : Nat} {D : va_G} {s0 : State} {b0 : Nat} (G : hp_G l B D s0 b0) (o : Nat) (a1 : Nat) (a2 : Int32) (a3 : Int32) (Si : hp_St) (Q : Int32 → Prop) (hc0 : st_C Si o = 3) (h : wp_X3_price o a1 a2 a3 Si Q) : hp_M l B D s0 yX3_price cX3_price 5 (some .int) 6 384 0 0 [hp_v B o, hp_v B a1, .int a2, .int a3] Si (hp_Qi B D s0 (fun r S' => S' = Si ∧ Q r)) := by
  refine hp_start G (by decide +kernel) rfl rfl (lv := [(0, hp_v B o), (1, hp_v B a1), (2, .int a2), (3, .int a3)]) (by simp [lg_sl, hp_vc, hp_ci, hp_cj]) (by simp [lv_args, hp_vc, hp_ci, hp_cj]) ?_
  intro p e s m args below meth c E ls hl hR
  generalize hH : s.heap = H at hR ⊢
  generalize hLo : ([] : List Loc) = locs at hR ⊢
  have b26 : ∀ (t0 : Int32) (H : Heap) (locs : List Loc) (ls : Array Slot), wb_X3_price_26 o a1 a2 a3 t0 Si Q → lv_has ls 5 [] → hp_S B D s0 Si H locs → W p l e ({ frames := 6, cells := 0, slots := 0, locals := 384 } : Room) s m args below meth c H locs 0 0 (MQ below (hp_Qi B D s0 (fun r S' => S' = Si ∧ Q r)) args s 0 0 (fun q => B < q)) (F0 m 26 ls [.int t0]) := by
    intro t0 H locs ls h hl hR
    unfold wb_X3_price_26 at h
    exact hp_iret E hR ⟨rfl, h⟩ (Nat.le_of_ble_eq_true rfl) (Nat.le_of_ble_eq_true rfl) dX3_price_26
  unfold wp_X3_price at h
  refine hp_aload_n E hl 0 rfl 0 rfl dX3_price_0 (rfl : 0 + 1 = 1) ?_
  refine hp_iconst E (2 : Int32) (by decide) dX3_price_1 (rfl : 1 + 1 = 2) ?_
  refine hp_iconst E (2 : Int32) (by decide) dX3_price_2 (rfl : 2 + 1 = 3) ?_
  refine hp_aload_n E hl 1 rfl 1 rfl dX3_price_3 (rfl : 3 + 1 = 4) ?_
  refine hp_iload_n E hl 2 rfl 2 rfl dX3_price_4 (rfl : 4 + 1 = 5) ?_
  refine hp_iload_n E hl 3 rfl 3 rfl dX3_price_5 (rfl : 5 + 1 = 6) ?_
  refine hp_fa (hp_rV E hR hl (m_X3_latest G _ _ _ _ _ _ _ _ hc0 h) hc0 (ci := 2) rfl rfl q743 q744 q745 q75 q746 nf_X3_latest ⟨Nat.le_of_ble_eq_true rfl, Nat.le_of_ble_eq_true rfl⟩ (rest := []) rfl (Nat.le_of_ble_eq_true rfl) dX3_price_6 ⟨Nat.le_of_ble_eq_true rfl, Nat.le_of_ble_eq_true rfl⟩) hR (rfl : 6 + 3 = 9) (fun z1 Sx H locs hq hR => ?_)
  obtain ⟨hSx, h⟩ := hq
  rw [hSx] at hR
  refine hp_astore E hl 4 (lv' := [(0, hp_v B o), (1, hp_v B a1), (2, .int a2), (3, .int a3)]) dX3_price_9 (rfl : 9 + 2 = 11) (by decide) rfl (fun ls hl => ?_)
  refine hp_aload E hl 0 rfl dX3_price_11 (rfl : 11 + 2 = 13) ?_
  refine hp_ifnonnull E dX3_price_13 (rfl : 13 + 3 = 16) (tgt := 21) (by decide) (fun hb => ?_) (fun hb => ?_)
  · have h := h.1 hb
    refine hp_bipush E (10 : Int32) (by decide) dX3_price_16 (rfl : 16 + 2 = 18) ?_
    refine hp_goto E (tgt := 26) dX3_price_18 (by decide) ?_
    exact b26 _ _ _ _ h (lv_sub hl [] rfl) hR
  · have h := h.2 hb
    refine hp_aload E hl 0 rfl dX3_price_21 (rfl : 21 + 2 = 23) ?_
    obtain ⟨hc2, h⟩ := h
    refine hp_getIN E hR in_X9 hc2 rfl 1 (Nat.le_of_ble_eq_true rfl) rfl q565 (fun _ h => h) dX3_price_23 (rfl : 23 + 3 = 26) ?_
    exact b26 _ _ _ _ h (lv_sub hl [] rfl) hR
def wb_X3_lump_25 (o : Nat) (a1 : Nat) (a2 : Int32) (a3 : Int32) (t0 : Int32) (S : hp_St) (Q : Int32 → Prop) : Prop := Q t0
def wp_X3_lump (o : Nat) (a1 : Nat) (a2 : Int32) (a3 : Int32) (S : hp_St) (Q : Int32 → Prop) : Prop := wp_X3_latest o (3 : Int32) (3 : Int32) a1 a2 a3 S (fun z1 => (((z1 = 0) → wb_X3_lump_25 o a1 a2 a3 (0 : Int32) S Q) ∧ ((¬ (z1 = 0)) → (st_C S z1 = 9) ∧ wb_X3_lump_25 o a1 a2 a3 (st_I S z1 1) S Q)))
theorem nf_X3_lump : hp_nf yX3_lump 3 = true := by decide +kernel
set_option maxHeartbeats 4000000 in
theorem m_X3_lump {l : Launch} {B : Nat} {D : va_G} {s0 : State} {b0 : Nat} (G : hp_G l B D s0 b0) (o : Nat) (a1 : Nat) (a2 : Int32) (a3 : Int32) (Si : hp_St) (Q : Int32 → Prop) (hc0 : st_C Si o = 3) (h : wp_X3_lump o a1 a2 a3 Si Q) : hp_M l B D s0 yX3_lump cX3_lump 5 (some .int) 6 384 0 0 [hp_v B o, hp_v B a1, .int a2, .int a3] Si (hp_Qi B D s0 (fun r S' => S' = Si ∧ Q r)) := by
  refine hp_start G (by decide +kernel) rfl rfl (lv := [(0, hp_v B o), (1, hp_v B a1), (2, .int a2), (3, .int a3)]) (by simp [lg_sl, hp_vc, hp_ci, hp_cj]) (by simp [lv_args, hp_vc, hp_ci, hp_cj]) ?_
  intro p e s m args below meth c E ls hl hR
  generalize hH : s.heap = H at hR ⊢
  generalize hLo : ([] : List Loc) = locs at hR ⊢
  have b25 : ∀ (t0 : Int32) (H : Heap) (locs : List Loc) (ls : Array Slot), wb_X3_lump_25 o a1 a2 a3 t0 Si Q → lv_has ls 5 [] → hp_S B D s0 Si H locs → W p l e ({ frames := 6, cells := 0, slots := 0, locals := 384 } : Room) s m args below meth c H locs 0 0 (MQ below (hp_Qi B D s0 (fun r S' => S' = Si ∧ Q r)) args s 0 0 (fun q => B < q)) (F0 m 25 ls [.int t0]) := by
    intro t0 H locs ls h hl hR
    unfold wb_X3_lump_25 at h
    exact hp_iret E hR ⟨rfl, h⟩ (Nat.le_of_ble_eq_true rfl) (Nat.le_of_ble_eq_true rfl) dX3_lump_25
  unfold wp_X3_lump at h
  refine hp_aload_n E hl 0 rfl 0 rfl dX3_lump_0 (rfl : 0 + 1 = 1) ?_
  refine hp_iconst E (3 : Int32) (by decide) dX3_lump_1 (rfl : 1 + 1 = 2) ?_
  refine hp_iconst E (3 : Int32) (by decide) dX3_lump_2 (rfl : 2 + 1 = 3) ?_
  refine hp_aload_n E hl 1 rfl 1 rfl dX3_lump_3 (rfl : 3 + 1 = 4) ?_
  refine hp_iload_n E hl 2 rfl 2 rfl dX3_lump_4 (rfl : 4 + 1 = 5) ?_
  refine hp_iload_n E hl 3 rfl 3 rfl dX3_lump_5 (rfl : 5 + 1 = 6) ?_
  refine hp_fa (hp_rV E hR hl (m_X3_latest G _ _ _ _ _ _ _ _ hc0 h) hc0 (ci := 2) rfl rfl q743 q744 q745 q75 q746 nf_X3_latest ⟨Nat.le_of_ble_eq_true rfl, Nat.le_of_ble_eq_true rfl⟩ (rest := []) rfl (Nat.le_of_ble_eq_true rfl) dX3_lump_6 ⟨Nat.le_of_ble_eq_true rfl, Nat.le_of_ble_eq_true rfl⟩) hR (rfl : 6 + 3 = 9) (fun z1 Sx H locs hq hR => ?_)
  obtain ⟨hSx, h⟩ := hq
  rw [hSx] at hR
  refine hp_astore E hl 4 (lv' := [(0, hp_v B o), (1, hp_v B a1), (2, .int a2), (3, .int a3)]) dX3_lump_9 (rfl : 9 + 2 = 11) (by decide) rfl (fun ls hl => ?_)
  refine hp_aload E hl 0 rfl dX3_lump_11 (rfl : 11 + 2 = 13) ?_
  refine hp_ifnonnull E dX3_lump_13 (rfl : 13 + 3 = 16) (tgt := 20) (by decide) (fun hb => ?_) (fun hb => ?_)
  · have h := h.1 hb
    refine hp_iconst E (0 : Int32) (by decide) dX3_lump_16 (rfl : 16 + 1 = 17) ?_
    refine hp_goto E (tgt := 25) dX3_lump_17 (by decide) ?_
    exact b25 _ _ _ _ h (lv_sub hl [] rfl) hR
  · have h := h.2 hb
    refine hp_aload E hl 0 rfl dX3_lump_20 (rfl : 20 + 2 = 22) ?_
    obtain ⟨hc2, h⟩ := h
    refine hp_getIN E hR in_X9 hc2 rfl 1 (Nat.le_of_ble_eq_true rfl) rfl q565 (fun _ h => h) dX3_lump_22 (rfl : 22 + 3 = 25) ?_
    exact b25 _ _ _ _ h (lv_sub hl [] rfl) hR
def wb_X1_asks_61 (o : Nat) (a1 : Int32) (a2 : Int32) (t0 : Int32) (S : hp_St) (Q : Int32 → Prop) : Prop := Q t0
def wp_X1_asks (o : Nat) (a1 : Int32) (a2 : Int32) (S : hp_St) (Q : Int32 → Prop) : Prop := wp_X1_aLife o a1 S (fun z1 => (((z1 = 0) → Q (-1 : Int32)) ∧ ((¬ (z1 = 0)) → ((a2 = (0 : Int32) → (st_C S (st_R S o 7) = 3) ∧ wp_X3_may (st_R S o 7) z1 (st_I S o 4) (0 : Int32) S (fun z3 => (((z3 = 0) → wb_X1_asks_61 o a1 a2 (0 : Int32) S Q) ∧ ((¬ (z3 = 0)) → wb_X1_asks_61 o a1 a2 (1 : Int32) S Q)))) ∧ (a2 = (1 : Int32) → (st_C S (st_R S o 7) = 3) ∧ wp_X3_price (st_R S o 7) z1 (st_I S o 4) (0 : Int32) S (fun z5 => Q z5)) ∧ (a2 = (2 : Int32) → (st_C S (st_R S o 7) = 3) ∧ wp_X3_lump (st_R S o 7) z1 (st_I S o 4) (0 : Int32) S (fun z7 => Q z7)) ∧ ((¬ a2 = (0 : Int32) ∧ ¬ a2 = (1 : Int32) ∧ ¬ a2 = (2 : Int32)) → Q (-1 : Int32))))))
theorem nf_X1_asks : hp_nf yX1_asks 2 = true := by decide +kernel
set_option maxHeartbeats 4000000 in
theorem m_X1_asks {l : Launch} {B : Nat} {D : va_G} {s0 : State} {b0 : Nat} (G : hp_G l B D s0 b0) (o : Nat) (a1 : Int32) (a2 : Int32) (Si : hp_St) (Q : Int32 → Prop) (hc0 : st_C Si o = 1) (h : wp_X1_asks o a1 a2 Si Q) : hp_M l B D s0 yX1_asks cX1_asks 4 (some .int) 7 448 0 0 [hp_v B o, .int a1, .int a2] Si (hp_Qi B D s0 (fun r S' => S' = Si ∧ Q r)) := by
  refine hp_start G (by decide +kernel) rfl rfl (lv := [(0, hp_v B o), (1, .int a1), (2, .int a2)]) (by simp [lg_sl, hp_vc, hp_ci, hp_cj]) (by simp [lv_args, hp_vc, hp_ci, hp_cj]) ?_
  intro p e s m args below meth c E ls hl hR
  generalize hH : s.heap = H at hR ⊢
  generalize hLo : ([] : List Loc) = locs at hR ⊢
  have b61 : ∀ (t0 : Int32) (H : Heap) (locs : List Loc) (ls : Array Slot), wb_X1_asks_61 o a1 a2 t0 Si Q → lv_has ls 4 [] → hp_S B D s0 Si H locs → W p l e ({ frames := 7, cells := 0, slots := 0, locals := 448 } : Room) s m args below meth c H locs 0 0 (MQ below (hp_Qi B D s0 (fun r S' => S' = Si ∧ Q r)) args s 0 0 (fun q => B < q)) (F0 m 61 ls [.int t0]) := by
    intro t0 H locs ls h hl hR
    unfold wb_X1_asks_61 at h
    exact hp_iret E hR ⟨rfl, h⟩ (Nat.le_of_ble_eq_true rfl) (Nat.le_of_ble_eq_true rfl) dX1_asks_61
  unfold wp_X1_asks at h
  refine hp_aload_n E hl 0 rfl 0 rfl dX1_asks_0 (rfl : 0 + 1 = 1) ?_
  refine hp_iload_n E hl 1 rfl 1 rfl dX1_asks_1 (rfl : 1 + 1 = 2) ?_
  refine hp_fa (hp_rV E hR hl (m_X1_aLife G _ _ _ _ hc0 h) hc0 (ci := 0) rfl rfl q723 q725 qs16 q73 q726 nf_X1_aLife ⟨Nat.le_of_ble_eq_true rfl, Nat.le_of_ble_eq_true rfl⟩ (rest := []) rfl (Nat.le_of_ble_eq_true rfl) dX1_asks_2 ⟨Nat.le_of_ble_eq_true rfl, Nat.le_of_ble_eq_true rfl⟩) hR (rfl : 2 + 3 = 5) (fun z1 Sx H locs hq hR => ?_)
  obtain ⟨hSx, h⟩ := hq
  rw [hSx] at hR
  refine hp_astore_n E hl 3 rfl (lv' := [(0, hp_v B o), (1, .int a1), (2, .int a2)]) dX1_asks_5 (rfl : 5 + 1 = 6) (by decide) rfl (fun ls hl => ?_)
  refine hp_aload_n E hl 3 rfl 0 rfl dX1_asks_6 (rfl : 6 + 1 = 7) ?_
  refine hp_ifnonnull E dX1_asks_7 (rfl : 7 + 3 = 10) (tgt := 12) (by decide) (fun hb => ?_) (fun hb => ?_)
  · have h := h.1 hb
    refine hp_iconst E (-1 : Int32) (by decide) dX1_asks_10 (rfl : 10 + 1 = 11) ?_
    exact hp_iret E hR ⟨rfl, h⟩ (Nat.le_of_ble_eq_true rfl) (Nat.le_of_ble_eq_true rfl) dX1_asks_11
  · have h := h.2 hb
    refine hp_iload_n E hl 2 rfl 3 rfl dX1_asks_12 (rfl : 12 + 1 = 13) ?_
    refine hp_case (x := a2) (k := (0 : Int32)) (fun hb => ?_) (fun hn0 => ?_)
    · refine hp_tabIn E hb dX1_asks_13 (off := 27) (tgt := 40) (by decide) (by decide) rfl (by decide) ?_
      have h := h.1 hb
      refine hp_aload_n E hl 0 rfl 1 rfl dX1_asks_40 (rfl : 40 + 1 = 41) ?_
      refine hp_getR E hR in_X1 hc0 rfl 7 (Nat.le_of_ble_eq_true rfl) rfl q324 (fun _ h => h) dX1_asks_41 (rfl : 41 + 3 = 44) ?_
      refine hp_aload_n E hl 3 rfl 0 rfl dX1_asks_44 (rfl : 44 + 1 = 45) ?_
      refine hp_aload_n E hl 0 rfl 1 rfl dX1_asks_45 (rfl : 45 + 1 = 46) ?_
      refine hp_getI E hR in_X1 hc0 rfl 4 (Nat.le_of_ble_eq_true rfl) rfl q320 (fun _ h => h) dX1_asks_46 (rfl : 46 + 3 = 49) ?_
      refine hp_iconst E (0 : Int32) (by decide) dX1_asks_49 (rfl : 49 + 1 = 50) ?_
      obtain ⟨hc2, h⟩ := h
      refine hp_fi (hp_rV E hR hl (m_X3_may G _ _ _ _ _ _ hc2 h) hc2 (ci := 2) rfl rfl q739 q740 q741 q75 q742 nf_X3_may ⟨Nat.le_of_ble_eq_true rfl, Nat.le_of_ble_eq_true rfl⟩ (rest := []) rfl (Nat.le_of_ble_eq_true rfl) dX1_asks_50 ⟨Nat.le_of_ble_eq_true rfl, Nat.le_of_ble_eq_true rfl⟩) hR (rfl : 50 + 3 = 53) (fun z3 Sx H locs hq hR => ?_)
      obtain ⟨hSx, h⟩ := hq
      rw [hSx] at hR
      refine hp_if_eq E dX1_asks_53 (rfl : 53 + 3 = 56) (tgt := 60) (by decide) (fun hb => ?_) (fun hb => ?_)
      · have h := h.1 hb
        refine hp_iconst E (0 : Int32) (by decide) dX1_asks_60 (rfl : 60 + 1 = 61) ?_
        exact b61 _ _ _ _ h (lv_sub hl [] rfl) hR
      · have h := h.2 hb
        refine hp_iconst E (1 : Int32) (by decide) dX1_asks_56 (rfl : 56 + 1 = 57) ?_
        refine hp_goto E (tgt := 61) dX1_asks_57 (by decide) ?_
        exact b61 _ _ _ _ h (lv_sub hl [] rfl) hR
    refine hp_case (x := a2) (k := (1 : Int32)) (fun hb => ?_) (fun hn1 => ?_)
    · refine hp_tabIn E hb dX1_asks_13 (off := 49) (tgt := 62) (by decide) (by decide) rfl (by decide) ?_
      have h := h.2.1 hb
      refine hp_aload_n E hl 0 rfl 1 rfl dX1_asks_62 (rfl : 62 + 1 = 63) ?_
      refine hp_getR E hR in_X1 hc0 rfl 7 (Nat.le_of_ble_eq_true rfl) rfl q324 (fun _ h => h) dX1_asks_63 (rfl : 63 + 3 = 66) ?_
      refine hp_aload_n E hl 3 rfl 0 rfl dX1_asks_66 (rfl : 66 + 1 = 67) ?_
      refine hp_aload_n E hl 0 rfl 1 rfl dX1_asks_67 (rfl : 67 + 1 = 68) ?_
      refine hp_getI E hR in_X1 hc0 rfl 4 (Nat.le_of_ble_eq_true rfl) rfl q320 (fun _ h => h) dX1_asks_68 (rfl : 68 + 3 = 71) ?_
      refine hp_iconst E (0 : Int32) (by decide) dX1_asks_71 (rfl : 71 + 1 = 72) ?_
      obtain ⟨hc4, h⟩ := h
      refine hp_fi (hp_rV E hR hl (m_X3_price G _ _ _ _ _ _ hc4 h) hc4 (ci := 2) rfl rfl q759 q760 q761 q75 q762 nf_X3_price ⟨Nat.le_of_ble_eq_true rfl, Nat.le_of_ble_eq_true rfl⟩ (rest := []) rfl (Nat.le_of_ble_eq_true rfl) dX1_asks_72 ⟨Nat.le_of_ble_eq_true rfl, Nat.le_of_ble_eq_true rfl⟩) hR (rfl : 72 + 3 = 75) (fun z5 Sx H locs hq hR => ?_)
      obtain ⟨hSx, h⟩ := hq
      rw [hSx] at hR
      exact hp_iret E hR ⟨rfl, h⟩ (Nat.le_of_ble_eq_true rfl) (Nat.le_of_ble_eq_true rfl) dX1_asks_75
    refine hp_case (x := a2) (k := (2 : Int32)) (fun hb => ?_) (fun hn2 => ?_)
    · refine hp_tabIn E hb dX1_asks_13 (off := 63) (tgt := 76) (by decide) (by decide) rfl (by decide) ?_
      have h := h.2.2.1 hb
      refine hp_aload_n E hl 0 rfl 1 rfl dX1_asks_76 (rfl : 76 + 1 = 77) ?_
      refine hp_getR E hR in_X1 hc0 rfl 7 (Nat.le_of_ble_eq_true rfl) rfl q324 (fun _ h => h) dX1_asks_77 (rfl : 77 + 3 = 80) ?_
      refine hp_aload_n E hl 3 rfl 0 rfl dX1_asks_80 (rfl : 80 + 1 = 81) ?_
      refine hp_aload_n E hl 0 rfl 1 rfl dX1_asks_81 (rfl : 81 + 1 = 82) ?_
      refine hp_getI E hR in_X1 hc0 rfl 4 (Nat.le_of_ble_eq_true rfl) rfl q320 (fun _ h => h) dX1_asks_82 (rfl : 82 + 3 = 85) ?_
      refine hp_iconst E (0 : Int32) (by decide) dX1_asks_85 (rfl : 85 + 1 = 86) ?_
      obtain ⟨hc6, h⟩ := h
      refine hp_fi (hp_rV E hR hl (m_X3_lump G _ _ _ _ _ _ hc6 h) hc6 (ci := 2) rfl rfl q763 q764 q765 q75 q766 nf_X3_lump ⟨Nat.le_of_ble_eq_true rfl, Nat.le_of_ble_eq_true rfl⟩ (rest := []) rfl (Nat.le_of_ble_eq_true rfl) dX1_asks_86 ⟨Nat.le_of_ble_eq_true rfl, Nat.le_of_ble_eq_true rfl⟩) hR (rfl : 86 + 3 = 89) (fun z7 Sx H locs hq hR => ?_)
      obtain ⟨hSx, h⟩ := hq
      rw [hSx] at hR
      exact hp_iret E hR ⟨rfl, h⟩ (Nat.le_of_ble_eq_true rfl) (Nat.le_of_ble_eq_true rfl) dX1_asks_89
    have hno : ¬ a2 = (0 : Int32) ∧ ¬ a2 = (1 : Int32) ∧ ¬ a2 = (2 : Int32) := ⟨hn0, hn1, hn2⟩
    have h := h.2.2.2 hno
    refine hp_tabOut E dX1_asks_13 (tgt := 90) (hp_out3 hno) (by decide) ?_
    refine hp_iconst E (-1 : Int32) (by decide) dX1_asks_90 (rfl : 90 + 1 = 91) ?_
    exact hp_iret E hR ⟨rfl, h⟩ (Nat.le_of_ble_eq_true rfl) (Nat.le_of_ble_eq_true rfl) dX1_asks_91
def wp_X1_isHolder (a0 : Int32) (S : hp_St) (Q : Int32 → Prop) : Prop := wp_X1_in a0 (0 : Int32) (7 : Int32) S (fun z1 => (z1 = 0 ∨ z1 = 1) ∧ Q z1)
theorem nf_X1_isHolder : hp_nf yX1_isHolder 1 = true := by decide +kernel
set_option maxHeartbeats 4000000 in
theorem m_X1_isHolder {l : Launch} {B : Nat} {D : va_G} {s0 : State} {b0 : Nat} (G : hp_G l B D s0 b0) (a0 : Int32) (Si : hp_St) (Q : Int32 → Prop) (h : wp_X1_isHolder a0 Si Q) : hp_M l B D s0 yX1_isHolder cX1_isHolder 1 (some .boolean) 3 192 0 0 [.int a0] Si (hp_Qi B D s0 (fun r S' => S' = Si ∧ Q r)) := by
  refine hp_start G (by decide +kernel) rfl rfl (lv := [(0, .int a0)]) (by simp [lg_sl, hp_vc, hp_ci, hp_cj]) (by simp [lv_args, hp_vc, hp_ci, hp_cj]) ?_
  intro p e s m args below meth c E ls hl hR
  unfold wp_X1_isHolder at h
  refine hp_iload_n E hl 0 rfl 0 rfl dX1_isHolder_0 (rfl : 0 + 1 = 1) ?_
  refine hp_iconst E (0 : Int32) (by decide) dX1_isHolder_1 (rfl : 1 + 1 = 2) ?_
  refine hp_bipush E (7 : Int32) (by decide) dX1_isHolder_2 (rfl : 2 + 2 = 4) ?_
  refine hp_fi (hp_rS E hR hl (m_X1_in G _ _ _ _ _ h) q394 q395 q73 q396 nf_X1_in ⟨Nat.le_of_ble_eq_true rfl, Nat.le_of_ble_eq_true rfl⟩ (rest := []) rfl (Nat.le_of_ble_eq_true rfl) dX1_isHolder_4 ⟨Nat.le_of_ble_eq_true rfl, Nat.le_of_ble_eq_true rfl⟩) hR (rfl : 4 + 3 = 7) (fun z1 Sx H locs hq hR => ?_)
  obtain ⟨hSx, h⟩ := hq
  rw [hSx] at hR
  obtain ⟨hz2, h⟩ := h
  exact hp_zret E hR hz2 ⟨rfl, h⟩ (Nat.le_of_ble_eq_true rfl) (Nat.le_of_ble_eq_true rfl) dX1_isHolder_7
def wb_X1_younger_18 (a0 : Nat) (a1 : Nat) (a2 : Int32) (t0 : Nat) (S : hp_St) (Q : Nat → Prop) : Prop := Q t0
def wp_X1_younger (a0 : Nat) (a1 : Nat) (a2 : Int32) (S : hp_St) (Q : Nat → Prop) : Prop := (st_C S a1 = 10) ∧ wp_X10_age a1 a2 S (fun z2 => (st_C S a0 = 10) ∧ wp_X10_age a0 a2 S (fun z4 => (((z2 < z4) → wb_X1_younger_18 a0 a1 a2 a1 S Q) ∧ ((¬ (z2 < z4)) → wb_X1_younger_18 a0 a1 a2 a0 S Q))))
theorem nf_X1_younger : hp_nf yX1_younger 3 = true := by decide +kernel
set_option maxHeartbeats 4000000 in
theorem m_X1_younger {l : Launch} {B : Nat} {D : va_G} {s0 : State} {b0 : Nat} (G : hp_G l B D s0 b0) (a0 : Nat) (a1 : Nat) (a2 : Int32) (Si : hp_St) (Q : Nat → Prop) (h : wp_X1_younger a0 a1 a2 Si Q) : hp_M l B D s0 yX1_younger cX1_younger 3 (some (.object "LifeRents$Life")) 3 192 0 0 [hp_v B a0, hp_v B a1, .int a2] Si (hp_Qa B D s0 (fun r S' => S' = Si ∧ Q r)) := by
  refine hp_start G (by decide +kernel) rfl rfl (lv := [(0, hp_v B a0), (1, hp_v B a1), (2, .int a2)]) (by simp [lg_sl, hp_vc, hp_ci, hp_cj]) (by simp [lv_args, hp_vc, hp_ci, hp_cj]) ?_
  intro p e s m args below meth c E ls hl hR
  generalize hH : s.heap = H at hR ⊢
  generalize hLo : ([] : List Loc) = locs at hR ⊢
  have b18 : ∀ (t0 : Nat) (H : Heap) (locs : List Loc) (ls : Array Slot), wb_X1_younger_18 a0 a1 a2 t0 Si Q → lv_has ls 3 [] → hp_S B D s0 Si H locs → W p l e ({ frames := 3, cells := 0, slots := 0, locals := 192 } : Room) s m args below meth c H locs 0 0 (MQ below (hp_Qa B D s0 (fun r S' => S' = Si ∧ Q r)) args s 0 0 (fun q => B < q)) (F0 m 18 ls [hp_v B t0]) := by
    intro t0 H locs ls h hl hR
    unfold wb_X1_younger_18 at h
    exact hp_aret E hR (Or.inl ⟨_, rfl⟩) ⟨rfl, h⟩ (Nat.le_of_ble_eq_true rfl) (Nat.le_of_ble_eq_true rfl) dX1_younger_18
  unfold wp_X1_younger at h
  refine hp_aload_n E hl 1 rfl 1 rfl dX1_younger_0 (rfl : 0 + 1 = 1) ?_
  refine hp_iload_n E hl 2 rfl 2 rfl dX1_younger_1 (rfl : 1 + 1 = 2) ?_
  obtain ⟨hc1, h⟩ := h
  refine hp_fi (hp_rV E hR hl (m_X10_age G _ _ _ _ hc1 h) hc1 (ci := 9) rfl rfl q777 q755 q756 q95 q757 nf_X10_age ⟨Nat.le_of_ble_eq_true rfl, Nat.le_of_ble_eq_true rfl⟩ (rest := []) rfl (Nat.le_of_ble_eq_true rfl) dX1_younger_2 ⟨Nat.le_of_ble_eq_true rfl, Nat.le_of_ble_eq_true rfl⟩) hR (rfl : 2 + 3 = 5) (fun z2 Sx H locs hq hR => ?_)
  obtain ⟨hSx, h⟩ := hq
  rw [hSx] at hR
  refine hp_aload_n E hl 0 rfl 0 rfl dX1_younger_5 (rfl : 5 + 1 = 6) ?_
  refine hp_iload_n E hl 2 rfl 2 rfl dX1_younger_6 (rfl : 6 + 1 = 7) ?_
  obtain ⟨hc3, h⟩ := h
  refine hp_fi (hp_rV E hR hl (m_X10_age G _ _ _ _ hc3 h) hc3 (ci := 9) rfl rfl q777 q755 q756 q95 q757 nf_X10_age ⟨Nat.le_of_ble_eq_true rfl, Nat.le_of_ble_eq_true rfl⟩ (rest := [.int z2]) rfl (Nat.le_of_ble_eq_true rfl) dX1_younger_7 ⟨Nat.le_of_ble_eq_true rfl, Nat.le_of_ble_eq_true rfl⟩) hR (rfl : 7 + 3 = 10) (fun z4 Sx H locs hq hR => ?_)
  obtain ⟨hSx, h⟩ := hq
  rw [hSx] at hR
  refine hp_icmp_ge E dX1_younger_10 (rfl : 10 + 3 = 13) (tgt := 17) (by decide) (fun hb => ?_) (fun hb => ?_)
  · have h := h.1 hb
    refine hp_aload_n E hl 1 rfl 1 rfl dX1_younger_13 (rfl : 13 + 1 = 14) ?_
    refine hp_goto E (tgt := 18) dX1_younger_14 (by decide) ?_
    exact b18 _ _ _ _ h (lv_sub hl [] rfl) hR
  · have h := h.2 hb
    refine hp_aload_n E hl 0 rfl 0 rfl dX1_younger_17 (rfl : 17 + 1 = 18) ?_
    exact b18 _ _ _ _ h (lv_sub hl [] rfl) hR
def wp_X11_init (o : Nat) (a1 : Int32) (a2 : Int32) (a3 : Int32) (a4 : Int32) (a5 : Nat) (S : hp_St) (Q : hp_St → Prop) : Prop := (∀ n4 S1, n4 = st_Z S → S1 = st_nA S 50 80 → hp_fr S n4 → (∀ S8, S8 = st_pR S1 o 5 n4 → (∀ n14 S11, n14 = st_Z S8 → S11 = st_nA S8 17 0 → hp_fr S8 n14 → wp_J2_init n14 (1 : Int32) S11 (fun S18 => hp_mono S11 S18 → (∀ S20, S20 = st_pR S18 o 6 n14 → (∀ S23, S23 = st_pI S20 o 0 a1 → (∀ S26, S26 = st_pI S23 o 1 a2 → (∀ S29, S29 = st_pI S26 o 2 a3 → (∀ S32, S32 = st_pI S29 o 3 a4 → (∀ S35, S35 = st_pR S32 o 4 a5 → Q S35))))))))))
theorem nf_X11_init : hp_nf yX11_init 5 = true := by decide +kernel
set_option maxHeartbeats 4000000 in
theorem m_X11_init {l : Launch} {B : Nat} {D : va_G} {s0 : State} {b0 : Nat} (G : hp_G l B D s0 b0) (o : Nat) (a1 : Int32) (a2 : Int32) (a3 : Int32) (a4 : Int32) (a5 : Nat) (Si : hp_St) (Q : hp_St → Prop) (hc0 : st_C Si o = 11 ∨ st_C Si o = 12) (h : wp_X11_init o a1 a2 a3 a4 a5 Si Q) : hp_M l B D s0 yX11_init cX11_init 6 none 5 320 3 147 [hp_v B o, .int a1, .int a2, .int a3, .int a4, hp_v B a5] Si (hp_Qv B D s0 (fun S' => hp_mono Si S' ∧ Q S')) := by
  refine hp_start G (by decide +kernel) rfl rfl (lv := [(0, hp_v B o), (1, .int a1), (2, .int a2), (3, .int a3), (4, .int a4), (5, hp_v B a5)]) (by simp [lg_sl, hp_vc, hp_ci, hp_cj]) (by simp [lv_args, hp_vc, hp_ci, hp_cj]) ?_
  intro p e s m args below meth c E ls hl hR
  have hm : hp_mono Si Si := hp_mono.rf
  unfold wp_X11_init at h
  refine hp_aload_n E hl 0 rfl 0 rfl dX11_init_0 (rfl : 0 + 1 = 1) ?_
  refine hp_obj E hl (hc0.elim (fun q => hp_ne hR q) (fun q => hp_ne hR q)) q783 q115 q116 dX11_init_1 (rfl : 1 + 3 = 4) (Nat.le_of_ble_eq_true rfl) (Nat.le_of_ble_eq_true rfl) (Nat.le_of_ble_eq_true rfl) ?_
  refine hp_aload_n E hl 0 rfl 0 rfl dX11_init_4 (rfl : 4 + 1 = 5) ?_
  refine hp_bipush E (80 : Int32) (by decide) dX11_init_5 (rfl : 5 + 2 = 7) ?_
  refine hx_newa E hR (atype := .int) (ty := .int) rfl 50 0 rfl (Or.inl ⟨rfl, rfl⟩) q249 (N := 80) (by decide) (by decide) (Nat.le_of_ble_eq_true rfl) (Nat.le_of_ble_eq_true rfl) (Nat.le_of_ble_eq_true rfl) dX11_init_7 (rfl : 7 + 2 = 9) (fun n4 S1 H e5 e3 hf6 hm2 hc7 hR => ?_)
  have h := h n4 S1 e5 e3 hf6
  have hm := hp_mono.tr hm hm2
  refine hp_or2 (hp_mono.c2 hm hc0) (fun hc kk => hx_putR E hR in_X11 tyX11 tyX11_ok nmX11 hc rfl 5 (Nat.le_of_ble_eq_true rfl) rfl q799 (fun _ h => h) (Or.inr ⟨E.nmm, rfl⟩) rfl dX11_init_9 (rfl : 9 + 3 = 12) kk) (fun hc kk => hx_putR E hR in_X12 tyX12 tyX12_ok nmX12 hc rfl 5 (Nat.le_of_ble_eq_true rfl) rfl q799 (fun _ h => h) (Or.inr ⟨E.nmm, rfl⟩) rfl dX11_init_9 (rfl : 9 + 3 = 12) kk) (fun S8 H locs e10 hm9 hR => ?_)
  have h := h S8 e10
  have hm := hp_mono.tr hm hm9
  refine hp_aload_n E hl 0 rfl 0 rfl dX11_init_12 (rfl : 12 + 1 = 13) ?_
  refine hx_new E hR in_J2 tyJ2 tyJ2_ok (ci := 16) rfl hd_J2 q784 q156 q78 (Nat.le_of_ble_eq_true rfl) (Nat.le_of_ble_eq_true rfl) dX11_init_13 (rfl : 13 + 3 = 16) (fun n14 S11 H e15 e13 hf16 hm12 hc17 hR => ?_)
  have h := h n14 S11 e15 e13 hf16
  have hm := hp_mono.tr hm hm12
  refine hp_dup E hp_vc dX11_init_16 (rfl : 16 + 1 = 17) ?_
  refine hp_iconst E (1 : Int32) (by decide) dX11_init_17 (rfl : 17 + 1 = 18) ?_
  refine hp_fv (hp_rI E hR hl (hp_ne hR hc17) (m_J2_init G _ _ _ _ hc17 h) rfl q785 q158 q78 q159 nf_J2_init ⟨Nat.le_of_ble_eq_true rfl, Nat.le_of_ble_eq_true rfl⟩ (rest := [hp_v B n14, hp_v B o]) rfl (Nat.le_of_ble_eq_true rfl) dX11_init_18 ⟨Nat.le_of_ble_eq_true rfl, Nat.le_of_ble_eq_true rfl⟩) hR (rfl : 18 + 3 = 21) (fun S18 H locs hq hR => ?_)
  obtain ⟨hm19, h⟩ := hq
  have h := h hm19
  have hm := hp_mono.tr hm hm19
  refine hp_or2 (hp_mono.c2 hm hc0) (fun hc kk => hx_putR E hR in_X11 tyX11 tyX11_ok nmX11 hc rfl 6 (Nat.le_of_ble_eq_true rfl) rfl q801 (fun _ h => h) (Or.inr ⟨E.nmm, rfl⟩) rfl dX11_init_21 (rfl : 21 + 3 = 24) kk) (fun hc kk => hx_putR E hR in_X12 tyX12 tyX12_ok nmX12 hc rfl 6 (Nat.le_of_ble_eq_true rfl) rfl q801 (fun _ h => h) (Or.inr ⟨E.nmm, rfl⟩) rfl dX11_init_21 (rfl : 21 + 3 = 24) kk) (fun S20 H locs e22 hm21 hR => ?_)
  have h := h S20 e22
  have hm := hp_mono.tr hm hm21
  refine hp_aload_n E hl 0 rfl 0 rfl dX11_init_24 (rfl : 24 + 1 = 25) ?_
  refine hp_iload_n E hl 1 rfl 1 rfl dX11_init_25 (rfl : 25 + 1 = 26) ?_
  refine hp_or2 (hp_mono.c2 hm hc0) (fun hc kk => hx_putI E hR in_X11 tyX11 tyX11_ok nmX11 hc rfl 0 (Nat.le_of_ble_eq_true rfl) rfl q786 (fun _ h => h) (Or.inr ⟨E.nmm, rfl⟩) (Or.inl rfl) dX11_init_26 (rfl : 26 + 3 = 29) kk) (fun hc kk => hx_putI E hR in_X12 tyX12 tyX12_ok nmX12 hc rfl 0 (Nat.le_of_ble_eq_true rfl) rfl q786 (fun _ h => h) (Or.inr ⟨E.nmm, rfl⟩) (Or.inl rfl) dX11_init_26 (rfl : 26 + 3 = 29) kk) (fun S23 H locs e25 hm24 hR => ?_)
  have h := h S23 e25
  have hm := hp_mono.tr hm hm24
  refine hp_aload_n E hl 0 rfl 0 rfl dX11_init_29 (rfl : 29 + 1 = 30) ?_
  refine hp_iload_n E hl 2 rfl 2 rfl dX11_init_30 (rfl : 30 + 1 = 31) ?_
  refine hp_or2 (hp_mono.c2 hm hc0) (fun hc kk => hx_putI E hR in_X11 tyX11 tyX11_ok nmX11 hc rfl 1 (Nat.le_of_ble_eq_true rfl) rfl q787 (fun _ h => h) (Or.inr ⟨E.nmm, rfl⟩) (Or.inl rfl) dX11_init_31 (rfl : 31 + 3 = 34) kk) (fun hc kk => hx_putI E hR in_X12 tyX12 tyX12_ok nmX12 hc rfl 1 (Nat.le_of_ble_eq_true rfl) rfl q787 (fun _ h => h) (Or.inr ⟨E.nmm, rfl⟩) (Or.inl rfl) dX11_init_31 (rfl : 31 + 3 = 34) kk) (fun S26 H locs e28 hm27 hR => ?_)
  have h := h S26 e28
  have hm := hp_mono.tr hm hm27
  refine hp_aload_n E hl 0 rfl 0 rfl dX11_init_34 (rfl : 34 + 1 = 35) ?_
  refine hp_iload_n E hl 3 rfl 3 rfl dX11_init_35 (rfl : 35 + 1 = 36) ?_
  refine hp_or2 (hp_mono.c2 hm hc0) (fun hc kk => hx_putI E hR in_X11 tyX11 tyX11_ok nmX11 hc rfl 2 (Nat.le_of_ble_eq_true rfl) rfl q790 (fun _ h => h) (Or.inr ⟨E.nmm, rfl⟩) (Or.inl rfl) dX11_init_36 (rfl : 36 + 3 = 39) kk) (fun hc kk => hx_putI E hR in_X12 tyX12 tyX12_ok nmX12 hc rfl 2 (Nat.le_of_ble_eq_true rfl) rfl q790 (fun _ h => h) (Or.inr ⟨E.nmm, rfl⟩) (Or.inl rfl) dX11_init_36 (rfl : 36 + 3 = 39) kk) (fun S29 H locs e31 hm30 hR => ?_)
  have h := h S29 e31
  have hm := hp_mono.tr hm hm30
  refine hp_aload_n E hl 0 rfl 0 rfl dX11_init_39 (rfl : 39 + 1 = 40) ?_
  refine hp_iload E hl 4 rfl dX11_init_40 (rfl : 40 + 2 = 42) ?_
  refine hp_or2 (hp_mono.c2 hm hc0) (fun hc kk => hx_putI E hR in_X11 tyX11 tyX11_ok nmX11 hc rfl 3 (Nat.le_of_ble_eq_true rfl) rfl q792 (fun _ h => h) (Or.inr ⟨E.nmm, rfl⟩) (Or.inl rfl) dX11_init_42 (rfl : 42 + 3 = 45) kk) (fun hc kk => hx_putI E hR in_X12 tyX12 tyX12_ok nmX12 hc rfl 3 (Nat.le_of_ble_eq_true rfl) rfl q792 (fun _ h => h) (Or.inr ⟨E.nmm, rfl⟩) (Or.inl rfl) dX11_init_42 (rfl : 42 + 3 = 45) kk) (fun S32 H locs e34 hm33 hR => ?_)
  have h := h S32 e34
  have hm := hp_mono.tr hm hm33
  refine hp_aload_n E hl 0 rfl 0 rfl dX11_init_45 (rfl : 45 + 1 = 46) ?_
  refine hp_aload E hl 5 rfl dX11_init_46 (rfl : 46 + 2 = 48) ?_
  refine hp_or2 (hp_mono.c2 hm hc0) (fun hc kk => hx_putR E hR in_X11 tyX11 tyX11_ok nmX11 hc rfl 4 (Nat.le_of_ble_eq_true rfl) rfl q794 (fun _ h => h) (Or.inr ⟨E.nmm, rfl⟩) rfl dX11_init_48 (rfl : 48 + 3 = 51) kk) (fun hc kk => hx_putR E hR in_X12 tyX12 tyX12_ok nmX12 hc rfl 4 (Nat.le_of_ble_eq_true rfl) rfl q794 (fun _ h => h) (Or.inr ⟨E.nmm, rfl⟩) rfl dX11_init_48 (rfl : 48 + 3 = 51) kk) (fun S35 H locs e37 hm36 hR => ?_)
  have h := h S35 e37
  have hm := hp_mono.tr hm hm36
  exact hp_vret E hR ⟨hm, h⟩ (Nat.le_of_ble_eq_true rfl) (Nat.le_of_ble_eq_true rfl) dX11_init_51
def wp_X12_init (o : Nat) (a1 : Int32) (a2 : Int32) (a3 : Int32) (a4 : Int32) (a5 : Nat) (a6 : Nat) (S : hp_St) (Q : hp_St → Prop) : Prop := wp_X11_init o a1 a2 a3 a4 a5 S (fun S1 => hp_mono S S1 → (∀ S3, S3 = st_pR S1 o 7 a6 → Q S3))
theorem nf_X12_init : hp_nf yX12_init 6 = true := by decide +kernel
set_option maxHeartbeats 4000000 in
theorem m_X12_init {l : Launch} {B : Nat} {D : va_G} {s0 : State} {b0 : Nat} (G : hp_G l B D s0 b0) (o : Nat) (a1 : Int32) (a2 : Int32) (a3 : Int32) (a4 : Int32) (a5 : Nat) (a6 : Nat) (Si : hp_St) (Q : hp_St → Prop) (hc0 : st_C Si o = 12) (h : wp_X12_init o a1 a2 a3 a4 a5 a6 Si Q) : hp_M l B D s0 yX12_init cX12_init 7 none 6 384 3 147 [hp_v B o, .int a1, .int a2, .int a3, .int a4, hp_v B a5, hp_v B a6] Si (hp_Qv B D s0 (fun S' => hp_mono Si S' ∧ Q S')) := by
  refine hp_start G (by decide +kernel) rfl rfl (lv := [(0, hp_v B o), (1, .int a1), (2, .int a2), (3, .int a3), (4, .int a4), (5, hp_v B a5), (6, hp_v B a6)]) (by simp [lg_sl, hp_vc, hp_ci, hp_cj]) (by simp [lv_args, hp_vc, hp_ci, hp_cj]) ?_
  intro p e s m args below meth c E ls hl hR
  have hm : hp_mono Si Si := hp_mono.rf
  unfold wp_X12_init at h
  refine hp_aload_n E hl 0 rfl 0 rfl dX12_init_0 (rfl : 0 + 1 = 1) ?_
  refine hp_iload_n E hl 1 rfl 1 rfl dX12_init_1 (rfl : 1 + 1 = 2) ?_
  refine hp_iload_n E hl 2 rfl 2 rfl dX12_init_2 (rfl : 2 + 1 = 3) ?_
  refine hp_iload_n E hl 3 rfl 3 rfl dX12_init_3 (rfl : 3 + 1 = 4) ?_
  refine hp_iload E hl 4 rfl dX12_init_4 (rfl : 4 + 2 = 6) ?_
  refine hp_aload E hl 5 rfl dX12_init_6 (rfl : 6 + 2 = 8) ?_
  refine hp_fv (hp_rI E hR hl (hp_ne hR hc0) (m_X11_init G _ _ _ _ _ _ _ _ (Or.inr hc0) h) rfl q823 q781 q97 q782 nf_X11_init ⟨Nat.le_of_ble_eq_true rfl, Nat.le_of_ble_eq_true rfl⟩ (rest := []) rfl (Nat.le_of_ble_eq_true rfl) dX12_init_8 ⟨Nat.le_of_ble_eq_true rfl, Nat.le_of_ble_eq_true rfl⟩) hR (rfl : 8 + 3 = 11) (fun S1 H locs hq hR => ?_)
  obtain ⟨hm2, h⟩ := hq
  have h := h hm2
  have hm := hp_mono.tr hm hm2
  refine hp_aload_n E hl 0 rfl 0 rfl dX12_init_11 (rfl : 11 + 1 = 12) ?_
  refine hp_aload E hl 6 rfl dX12_init_12 (rfl : 12 + 2 = 14) ?_
  refine hx_putR E hR in_X12 tyX12 tyX12_ok nmX12 (hp_mono.c hm hc0) rfl 7 (Nat.le_of_ble_eq_true rfl) rfl q824 (fun _ h => h) (Or.inr ⟨E.nmm, rfl⟩) rfl dX12_init_14 (rfl : 14 + 3 = 17) (fun S3 H locs e5 hm4 hR => ?_)
  have h := h S3 e5
  have hm := hp_mono.tr hm hm4
  exact hp_vret E hR ⟨hm, h⟩ (Nat.le_of_ble_eq_true rfl) (Nat.le_of_ble_eq_true rfl) dX12_init_17
def wb_X1_rent_64 (o : Nat) (a1 : Int32) (a2 : Int32) (a3 : Int32) (a4 : Int32) (S : hp_St) (Q : Int32 → hp_St → Prop) : Prop := Q (-1 : Int32) S
def wb_X1_rent_192 (o : Nat) (a1 : Int32) (a2 : Int32) (a3 : Int32) (a4 : Int32) (t0 : Nat) (t1 : Nat) (S : hp_St) (Q : Int32 → hp_St → Prop) : Prop := (st_C S t0 = 17) ∧ wp_J2_add t0 t1 S (fun z19202 S19203 => hp_mono S S19203 → (∀ S19205, S19205 = st_pI S19203 o 17 (0 : Int32) → (st_C S19205 (st_R S19205 o 9) = 17) ∧ wp_J2_size (st_R S19205 o 9) S19205 (fun z19209 => Q (z19209 - (1 : Int32)) S19205)))
def wb_X1_rent_137 (o : Nat) (a1 : Int32) (a2 : Int32) (a3 : Int32) (a4 : Int32) (r5 : Nat) (r6 : Nat) (t0 : Nat) (t1 : Nat) (t2 : Int32) (t3 : Int32) (S : hp_St) (Q : Int32 → hp_St → Prop) : Prop := (st_C S t0 = 3) ∧ wp_X3_price t0 t1 t2 t3 S (fun z13702 => (((r6 = 0) → (∀ n13706 S13703, n13706 = st_Z S → S13703 = st_nA S 11 0 → hp_fr S n13706 → wp_X11_init n13706 a1 (st_I S13703 o 4) a4 z13702 r5 S13703 (fun S13710 => hp_mono S13703 S13710 → wb_X1_rent_192 o a1 a2 a3 a4 (st_R S o 9) n13706 S13710 Q))) ∧ ((¬ (r6 = 0)) → (∀ n13715 S13712, n13715 = st_Z S → S13712 = st_nA S 12 0 → hp_fr S n13715 → wp_X12_init n13715 a1 (st_I S13712 o 4) a4 z13702 r5 r6 S13712 (fun S13719 => hp_mono S13712 S13719 → wb_X1_rent_192 o a1 a2 a3 a4 (st_R S o 9) n13715 S13719 Q)))))
def wb_X1_rent_109 (o : Nat) (a1 : Int32) (a2 : Int32) (a3 : Int32) (a4 : Int32) (r5 : Nat) (r6 : Nat) (r7 : Nat) (t0 : Nat) (t1 : Nat) (t2 : Int32) (t3 : Int32) (S : hp_St) (Q : Int32 → hp_St → Prop) : Prop := (st_C S t0 = 3) ∧ wp_X3_may t0 t1 t2 t3 S (fun z10902 => (((z10902 = 0) → Q (-1 : Int32) S) ∧ ((¬ (z10902 = 0)) → (((r6 = 0) → wb_X1_rent_137 o a1 a2 a3 a4 r5 r6 (st_R S o 7) r7 (st_I S o 4) (0 : Int32) S Q) ∧ ((¬ (r6 = 0)) → wb_X1_rent_137 o a1 a2 a3 a4 r5 r6 (st_R S o 7) r7 (st_I S o 4) (1 : Int32) S Q)))))
def wb_X1_rent_87 (o : Nat) (a1 : Int32) (a2 : Int32) (a3 : Int32) (a4 : Int32) (r5 : Nat) (r6 : Nat) (t0 : Nat) (S : hp_St) (Q : Int32 → hp_St → Prop) : Prop := (((r6 = 0) → wb_X1_rent_109 o a1 a2 a3 a4 r5 r6 t0 (st_R S o 7) t0 (st_I S o 4) (0 : Int32) S Q) ∧ ((¬ (r6 = 0)) → wb_X1_rent_109 o a1 a2 a3 a4 r5 r6 t0 (st_R S o 7) t0 (st_I S o 4) (1 : Int32) S Q))
def wb_X1_rent_41 (o : Nat) (a1 : Int32) (a2 : Int32) (a3 : Int32) (a4 : Int32) (r5 : Nat) (r6 : Nat) (S : hp_St) (Q : Int32 → hp_St → Prop) : Prop := wp_X1_in a4 (1 : Int32) (99 : Int32) S (fun z4101 => (((z4101 = 0) → wb_X1_rent_64 o a1 a2 a3 a4 S Q) ∧ ((¬ (z4101 = 0)) → (st_C S (st_R S o 9) = 17) ∧ wp_J2_size (st_R S o 9) S (fun z4103 => (((z4103 = (16 : Int32)) → wb_X1_rent_64 o a1 a2 a3 a4 S Q) ∧ ((¬ (z4103 = (16 : Int32))) → (((r6 = 0) → wb_X1_rent_87 o a1 a2 a3 a4 r5 r6 r5 S Q) ∧ ((¬ (r6 = 0)) → wp_X1_younger r5 r6 (st_I S o 4) S (fun z4104 => wb_X1_rent_87 o a1 a2 a3 a4 r5 r6 z4104 S Q)))))))))
def wp_X1_rent (o : Nat) (a1 : Int32) (a2 : Int32) (a3 : Int32) (a4 : Int32) (S : hp_St) (Q : Int32 → hp_St → Prop) : Prop := wp_X1_aLife o a2 S (fun z1 => wp_X1_aLife o a3 S (fun z2 => wp_X1_isHolder a1 S (fun z3 => (((z3 = 0) → wb_X1_rent_64 o a1 a2 a3 a4 S Q) ∧ ((¬ (z3 = 0)) → (((z1 = 0) → wb_X1_rent_64 o a1 a2 a3 a4 S Q) ∧ ((¬ (z1 = 0)) → (((a3 = (-1 : Int32)) → wb_X1_rent_41 o a1 a2 a3 a4 z1 z2 S Q) ∧ ((¬ (a3 = (-1 : Int32))) → (((z2 = 0) → wb_X1_rent_64 o a1 a2 a3 a4 S Q) ∧ ((¬ (z2 = 0)) → (((a3 = a2) → wb_X1_rent_64 o a1 a2 a3 a4 S Q) ∧ ((¬ (a3 = a2)) → wb_X1_rent_41 o a1 a2 a3 a4 z1 z2 S Q)))))))))))))
theorem nf_X1_rent : hp_nf yX1_rent 4 = true := by decide +kernel
set_option maxHeartbeats 4000000 in
theorem m_X1_rent {l : Launch} {B : Nat} {D : va_G} {s0 : State} {b0 : Nat} (G : hp_G l B D s0 b0) (o : Nat) (a1 : Int32) (a2 : Int32) (a3 : Int32) (a4 : Int32) (Si : hp_St) (Q : Int32 → hp_St → Prop) (hc0 : st_C Si o = 1) (h : wp_X1_rent o a1 a2 a3 a4 Si Q) : hp_M l B D s0 yX1_rent cX1_rent 9 (some .int) 9 576 5 219 [hp_v B o, .int a1, .int a2, .int a3, .int a4] Si (hp_Qi B D s0 (fun r S' => hp_mono Si S' ∧ Q r S')) := by
  refine hp_start G (by decide +kernel) rfl rfl (lv := [(0, hp_v B o), (1, .int a1), (2, .int a2), (3, .int a3), (4, .int a4)]) (by simp [lg_sl, hp_vc, hp_ci, hp_cj]) (by simp [lv_args, hp_vc, hp_ci, hp_cj]) ?_
  intro p e s m args below meth c E ls hl hR
  have hm : hp_mono Si Si := hp_mono.rf
  generalize hH : s.heap = H at hR ⊢
  generalize hLo : ([] : List Loc) = locs at hR ⊢
  have b64 : ∀ (S : hp_St) (H : Heap) (locs : List Loc) (ls : Array Slot), wb_X1_rent_64 o a1 a2 a3 a4 S Q → lv_has ls 9 [] → hp_S B D s0 S H locs → hp_mono Si S → W p l e ({ frames := 9, cells := 5, slots := 219, locals := 576 } : Room) s m args below meth c H locs 0 0 (MQ below (hp_Qi B D s0 (fun r S' => hp_mono Si S' ∧ Q r S')) args s 5 219 (fun q => B < q)) (F0 m 64 ls []) := by
    intro S H locs ls h hl hR hm
    unfold wb_X1_rent_64 at h
    refine hp_iconst E (-1 : Int32) (by decide) dX1_rent_64 (rfl : 64 + 1 = 65) ?_
    exact hp_iret E hR ⟨hm, h⟩ (Nat.le_of_ble_eq_true rfl) (Nat.le_of_ble_eq_true rfl) dX1_rent_65
  have b192 : ∀ (t0 : Nat) (t1 : Nat) (S : hp_St) (H : Heap) (locs : List Loc) (ls : Array Slot), wb_X1_rent_192 o a1 a2 a3 a4 t0 t1 S Q → lv_has ls 9 [(0, hp_v B o)] → hp_S B D s0 S H locs → hp_mono Si S → W p l e ({ frames := 9, cells := 5, slots := 219, locals := 576 } : Room) s m args below meth c H locs 4 155 (MQ below (hp_Qi B D s0 (fun r S' => hp_mono Si S' ∧ Q r S')) args s 5 219 (fun q => B < q)) (F0 m 192 ls [hp_v B t1, hp_v B t0]) := by
    intro t0 t1 S H locs ls h hl hR hm
    unfold wb_X1_rent_192 at h
    obtain ⟨hc19201, h⟩ := h
    refine hp_fi (hp_rV E hR hl (m_J2_add G _ _ _ _ hc19201 h) hc19201 (ci := 16) rfl rfl q718 q613 q614 q78 q615 nf_J2_add ⟨Nat.le_of_ble_eq_true rfl, Nat.le_of_ble_eq_true rfl⟩ (rest := []) rfl (Nat.le_of_ble_eq_true rfl) dX1_rent_192 ⟨Nat.le_of_ble_eq_true rfl, Nat.le_of_ble_eq_true rfl⟩) hR (rfl : 192 + 3 = 195) (fun z19202 S19203 H locs hq hR => ?_)
    obtain ⟨hm19204, h⟩ := hq
    have h := h hm19204
    have hm := hp_mono.tr hm hm19204
    refine hp_pop E rfl dX1_rent_195 (rfl : 195 + 1 = 196) ?_
    refine hp_aload_n E hl 0 rfl 0 rfl dX1_rent_196 (rfl : 196 + 1 = 197) ?_
    refine hp_iconst E (0 : Int32) (by decide) dX1_rent_197 (rfl : 197 + 1 = 198) ?_
    refine hx_putI E hR in_X1 tyX1 tyX1_ok nmX1 (hp_mono.c hm hc0) rfl 17 (Nat.le_of_ble_eq_true rfl) rfl q340 (fun _ h => h) (Or.inl rfl) (Or.inr ⟨rfl, (Or.inl rfl)⟩) dX1_rent_198 (rfl : 198 + 3 = 201) (fun S19205 H locs e19207 hm19206 hR => ?_)
    have h := h S19205 e19207
    have hm := hp_mono.tr hm hm19206
    refine hp_aload_n E hl 0 rfl 0 rfl dX1_rent_201 (rfl : 201 + 1 = 202) ?_
    refine hp_getR E hR in_X1 (hp_mono.c hm hc0) rfl 9 (Nat.le_of_ble_eq_true rfl) rfl q329 (fun _ h => h) dX1_rent_202 (rfl : 202 + 3 = 205) ?_
    obtain ⟨hc19208, h⟩ := h
    refine hp_fi (hp_rV E hR hl (m_J2_size G _ _ _ hc19208 h) hc19208 (ci := 16) rfl rfl q691 q545 q546 q78 q547 nf_J2_size ⟨Nat.le_of_ble_eq_true rfl, Nat.le_of_ble_eq_true rfl⟩ (rest := []) rfl (Nat.le_of_ble_eq_true rfl) dX1_rent_205 ⟨Nat.le_of_ble_eq_true rfl, Nat.le_of_ble_eq_true rfl⟩) hR (rfl : 205 + 3 = 208) (fun z19209 Sx H locs hq hR => ?_)
    obtain ⟨hSx, h⟩ := hq
    rw [hSx] at hR
    refine hp_iconst E (1 : Int32) (by decide) dX1_rent_208 (rfl : 208 + 1 = 209) ?_
    refine hp_isub E dX1_rent_209 (rfl : 209 + 1 = 210) ?_
    exact hp_iret E hR ⟨hm, h⟩ (Nat.le_of_ble_eq_true rfl) (Nat.le_of_ble_eq_true rfl) dX1_rent_210
  have b137 : ∀ (r5 : Nat) (r6 : Nat) (t0 : Nat) (t1 : Nat) (t2 : Int32) (t3 : Int32) (S : hp_St) (H : Heap) (locs : List Loc) (ls : Array Slot), wb_X1_rent_137 o a1 a2 a3 a4 r5 r6 t0 t1 t2 t3 S Q → lv_has ls 9 [(0, hp_v B o), (1, .int a1), (4, .int a4), (5, hp_v B r5), (6, hp_v B r6)] → hp_S B D s0 S H locs → hp_mono Si S → W p l e ({ frames := 9, cells := 5, slots := 219, locals := 576 } : Room) s m args below meth c H locs 0 0 (MQ below (hp_Qi B D s0 (fun r S' => hp_mono Si S' ∧ Q r S')) args s 5 219 (fun q => B < q)) (F0 m 137 ls [.int t3, .int t2, hp_v B t1, hp_v B t0]) := by
    intro r5 r6 t0 t1 t2 t3 S H locs ls h hl hR hm
    unfold wb_X1_rent_137 at h
    obtain ⟨hc13701, h⟩ := h
    refine hp_fi (hp_rV E hR hl (m_X3_price G _ _ _ _ _ _ hc13701 h) hc13701 (ci := 2) rfl rfl q759 q760 q761 q75 q762 nf_X3_price ⟨Nat.le_of_ble_eq_true rfl, Nat.le_of_ble_eq_true rfl⟩ (rest := []) rfl (Nat.le_of_ble_eq_true rfl) dX1_rent_137 ⟨Nat.le_of_ble_eq_true rfl, Nat.le_of_ble_eq_true rfl⟩) hR (rfl : 137 + 3 = 140) (fun z13702 Sx H locs hq hR => ?_)
    obtain ⟨hSx, h⟩ := hq
    rw [hSx] at hR
    refine hp_istore E hl 8 (lv' := [(0, hp_v B o), (1, .int a1), (4, .int a4), (5, hp_v B r5), (6, hp_v B r6)]) dX1_rent_140 (rfl : 140 + 2 = 142) (by decide) rfl (fun ls hl => ?_)
    refine hp_aload_n E hl 0 rfl 1 rfl dX1_rent_142 (rfl : 142 + 1 = 143) ?_
    refine hp_getR E hR in_X1 (hp_mono.c hm hc0) rfl 9 (Nat.le_of_ble_eq_true rfl) rfl q329 (fun _ h => h) dX1_rent_143 (rfl : 143 + 3 = 146) ?_
    refine hp_aload E hl 5 rfl dX1_rent_146 (rfl : 146 + 2 = 148) ?_
    refine hp_ifnonnull E dX1_rent_148 (rfl : 148 + 3 = 151) (tgt := 172) (by decide) (fun hb => ?_) (fun hb => ?_)
    · have h := h.1 hb
      refine hx_new E hR in_X11 tyX11 tyX11_ok (ci := 10) rfl hd_X11 q778 q779 q97 (Nat.le_of_ble_eq_true rfl) (Nat.le_of_ble_eq_true rfl) dX1_rent_151 (rfl : 151 + 3 = 154) (fun n13706 S13703 H e13707 e13705 hf13708 hm13704 hc13709 hR => ?_)
      have h := h n13706 S13703 e13707 e13705 hf13708
      have hm := hp_mono.tr hm hm13704
      refine hp_dup E hp_vc dX1_rent_154 (rfl : 154 + 1 = 155) ?_
      refine hp_iload_n E hl 1 rfl 2 rfl dX1_rent_155 (rfl : 155 + 1 = 156) ?_
      refine hp_aload_n E hl 0 rfl 1 rfl dX1_rent_156 (rfl : 156 + 1 = 157) ?_
      refine hp_getI E hR in_X1 (hp_mono.c hm hc0) rfl 4 (Nat.le_of_ble_eq_true rfl) rfl q320 (fun _ h => h) dX1_rent_157 (rfl : 157 + 3 = 160) ?_
      refine hp_iload E hl 3 rfl dX1_rent_160 (rfl : 160 + 2 = 162) ?_
      refine hp_iload E hl 0 rfl dX1_rent_162 (rfl : 162 + 2 = 164) ?_
      refine hp_aload E hl 4 rfl dX1_rent_164 (rfl : 164 + 2 = 166) ?_
      refine hp_fv (hp_rI E hR hl (hp_ne hR hc13709) (m_X11_init G _ _ _ _ _ _ _ _ (Or.inl hc13709) h) rfl q780 q781 q97 q782 nf_X11_init ⟨Nat.le_of_ble_eq_true rfl, Nat.le_of_ble_eq_true rfl⟩ (rest := [hp_v B n13706, hp_v B (st_R S o 9)]) rfl (Nat.le_of_ble_eq_true rfl) dX1_rent_166 ⟨Nat.le_of_ble_eq_true rfl, Nat.le_of_ble_eq_true rfl⟩) hR (rfl : 166 + 3 = 169) (fun S13710 H locs hq hR => ?_)
      obtain ⟨hm13711, h⟩ := hq
      have h := h hm13711
      have hm := hp_mono.tr hm hm13711
      refine hp_goto E (tgt := 192) dX1_rent_169 (by decide) ?_
      exact W.widen (Nat.le_of_ble_eq_true rfl) (Nat.le_of_ble_eq_true rfl) (b192 _ _ _ _ _ _ h (lv_sub hl [1] rfl) hR hm)
    · have h := h.2 hb
      refine hx_new E hR in_X12 tyX12 tyX12_ok (ci := 11) rfl hd_X12 q818 q819 q98 (Nat.le_of_ble_eq_true rfl) (Nat.le_of_ble_eq_true rfl) dX1_rent_172 (rfl : 172 + 3 = 175) (fun n13715 S13712 H e13716 e13714 hf13717 hm13713 hc13718 hR => ?_)
      have h := h n13715 S13712 e13716 e13714 hf13717
      have hm := hp_mono.tr hm hm13713
      refine hp_dup E hp_vc dX1_rent_175 (rfl : 175 + 1 = 176) ?_
      refine hp_iload_n E hl 1 rfl 2 rfl dX1_rent_176 (rfl : 176 + 1 = 177) ?_
      refine hp_aload_n E hl 0 rfl 1 rfl dX1_rent_177 (rfl : 177 + 1 = 178) ?_
      refine hp_getI E hR in_X1 (hp_mono.c hm hc0) rfl 4 (Nat.le_of_ble_eq_true rfl) rfl q320 (fun _ h => h) dX1_rent_178 (rfl : 178 + 3 = 181) ?_
      refine hp_iload E hl 3 rfl dX1_rent_181 (rfl : 181 + 2 = 183) ?_
      refine hp_iload E hl 0 rfl dX1_rent_183 (rfl : 183 + 2 = 185) ?_
      refine hp_aload E hl 4 rfl dX1_rent_185 (rfl : 185 + 2 = 187) ?_
      refine hp_aload E hl 5 rfl dX1_rent_187 (rfl : 187 + 2 = 189) ?_
      refine hp_fv (hp_rI E hR hl (hp_ne hR hc13718) (m_X12_init G _ _ _ _ _ _ _ _ _ hc13718 h) rfl q820 q821 q98 q822 nf_X12_init ⟨Nat.le_of_ble_eq_true rfl, Nat.le_of_ble_eq_true rfl⟩ (rest := [hp_v B n13715, hp_v B (st_R S o 9)]) rfl (Nat.le_of_ble_eq_true rfl) dX1_rent_189 ⟨Nat.le_of_ble_eq_true rfl, Nat.le_of_ble_eq_true rfl⟩) hR (rfl : 189 + 3 = 192) (fun S13719 H locs hq hR => ?_)
      obtain ⟨hm13720, h⟩ := hq
      have h := h hm13720
      have hm := hp_mono.tr hm hm13720
      exact b192 _ _ _ _ _ _ h (lv_sub hl [1] rfl) hR hm
  have b109 : ∀ (r5 : Nat) (r6 : Nat) (r7 : Nat) (t0 : Nat) (t1 : Nat) (t2 : Int32) (t3 : Int32) (S : hp_St) (H : Heap) (locs : List Loc) (ls : Array Slot), wb_X1_rent_109 o a1 a2 a3 a4 r5 r6 r7 t0 t1 t2 t3 S Q → lv_has ls 9 [(0, hp_v B o), (1, .int a1), (4, .int a4), (5, hp_v B r5), (6, hp_v B r6), (7, hp_v B r7)] → hp_S B D s0 S H locs → hp_mono Si S → W p l e ({ frames := 9, cells := 5, slots := 219, locals := 576 } : Room) s m args below meth c H locs 0 0 (MQ below (hp_Qi B D s0 (fun r S' => hp_mono Si S' ∧ Q r S')) args s 5 219 (fun q => B < q)) (F0 m 109 ls [.int t3, .int t2, hp_v B t1, hp_v B t0]) := by
    intro r5 r6 r7 t0 t1 t2 t3 S H locs ls h hl hR hm
    unfold wb_X1_rent_109 at h
    obtain ⟨hc10901, h⟩ := h
    refine hp_fi (hp_rV E hR hl (m_X3_may G _ _ _ _ _ _ hc10901 h) hc10901 (ci := 2) rfl rfl q739 q740 q741 q75 q742 nf_X3_may ⟨Nat.le_of_ble_eq_true rfl, Nat.le_of_ble_eq_true rfl⟩ (rest := []) rfl (Nat.le_of_ble_eq_true rfl) dX1_rent_109 ⟨Nat.le_of_ble_eq_true rfl, Nat.le_of_ble_eq_true rfl⟩) hR (rfl : 109 + 3 = 112) (fun z10902 Sx H locs hq hR => ?_)
    obtain ⟨hSx, h⟩ := hq
    rw [hSx] at hR
    refine hp_if_ne E dX1_rent_112 (rfl : 112 + 3 = 115) (tgt := 117) (by decide) (fun hb => ?_) (fun hb => ?_)
    · have h := h.1 hb
      refine hp_iconst E (-1 : Int32) (by decide) dX1_rent_115 (rfl : 115 + 1 = 116) ?_
      exact hp_iret E hR ⟨hm, h⟩ (Nat.le_of_ble_eq_true rfl) (Nat.le_of_ble_eq_true rfl) dX1_rent_116
    · have h := h.2 hb
      refine hp_aload_n E hl 0 rfl 0 rfl dX1_rent_117 (rfl : 117 + 1 = 118) ?_
      refine hp_getR E hR in_X1 (hp_mono.c hm hc0) rfl 7 (Nat.le_of_ble_eq_true rfl) rfl q324 (fun _ h => h) dX1_rent_118 (rfl : 118 + 3 = 121) ?_
      refine hp_aload E hl 5 rfl dX1_rent_121 (rfl : 121 + 2 = 123) ?_
      refine hp_aload_n E hl 0 rfl 0 rfl dX1_rent_123 (rfl : 123 + 1 = 124) ?_
      refine hp_getI E hR in_X1 (hp_mono.c hm hc0) rfl 4 (Nat.le_of_ble_eq_true rfl) rfl q320 (fun _ h => h) dX1_rent_124 (rfl : 124 + 3 = 127) ?_
      refine hp_aload E hl 4 rfl dX1_rent_127 (rfl : 127 + 2 = 129) ?_
      refine hp_ifnull E dX1_rent_129 (rfl : 129 + 3 = 132) (tgt := 136) (by decide) (fun hb => ?_) (fun hb => ?_)
      · have h := h.1 hb
        refine hp_iconst E (0 : Int32) (by decide) dX1_rent_136 (rfl : 136 + 1 = 137) ?_
        exact b137 _ _ _ _ _ _ _ _ _ _ h (lv_sub hl [0, 1, 2, 3, 4] rfl) hR hm
      · have h := h.2 hb
        refine hp_iconst E (1 : Int32) (by decide) dX1_rent_132 (rfl : 132 + 1 = 133) ?_
        refine hp_goto E (tgt := 137) dX1_rent_133 (by decide) ?_
        exact b137 _ _ _ _ _ _ _ _ _ _ h (lv_sub hl [0, 1, 2, 3, 4] rfl) hR hm
  have b87 : ∀ (r5 : Nat) (r6 : Nat) (t0 : Nat) (S : hp_St) (H : Heap) (locs : List Loc) (ls : Array Slot), wb_X1_rent_87 o a1 a2 a3 a4 r5 r6 t0 S Q → lv_has ls 9 [(0, hp_v B o), (1, .int a1), (4, .int a4), (5, hp_v B r5), (6, hp_v B r6)] → hp_S B D s0 S H locs → hp_mono Si S → W p l e ({ frames := 9, cells := 5, slots := 219, locals := 576 } : Room) s m args below meth c H locs 0 0 (MQ below (hp_Qi B D s0 (fun r S' => hp_mono Si S' ∧ Q r S')) args s 5 219 (fun q => B < q)) (F0 m 87 ls [hp_v B t0]) := by
    intro r5 r6 t0 S H locs ls h hl hR hm
    unfold wb_X1_rent_87 at h
    refine hp_astore E hl 7 (lv' := [(0, hp_v B o), (1, .int a1), (4, .int a4), (5, hp_v B r5), (6, hp_v B r6)]) dX1_rent_87 (rfl : 87 + 2 = 89) (by decide) (by simp [hp_vc, hp_ci, hp_cj]) (fun ls hl => ?_)
    refine hp_aload_n E hl 0 rfl 1 rfl dX1_rent_89 (rfl : 89 + 1 = 90) ?_
    refine hp_getR E hR in_X1 (hp_mono.c hm hc0) rfl 7 (Nat.le_of_ble_eq_true rfl) rfl q324 (fun _ h => h) dX1_rent_90 (rfl : 90 + 3 = 93) ?_
    refine hp_aload E hl 0 rfl dX1_rent_93 (rfl : 93 + 2 = 95) ?_
    refine hp_aload_n E hl 0 rfl 1 rfl dX1_rent_95 (rfl : 95 + 1 = 96) ?_
    refine hp_getI E hR in_X1 (hp_mono.c hm hc0) rfl 4 (Nat.le_of_ble_eq_true rfl) rfl q320 (fun _ h => h) dX1_rent_96 (rfl : 96 + 3 = 99) ?_
    refine hp_aload E hl 5 rfl dX1_rent_99 (rfl : 99 + 2 = 101) ?_
    refine hp_ifnull E dX1_rent_101 (rfl : 101 + 3 = 104) (tgt := 108) (by decide) (fun hb => ?_) (fun hb => ?_)
    · have h := h.1 hb
      refine hp_iconst E (0 : Int32) (by decide) dX1_rent_108 (rfl : 108 + 1 = 109) ?_
      exact b109 _ _ _ _ _ _ _ _ _ _ _ h (lv_sub hl [1, 2, 3, 4, 5, 0] rfl) hR hm
    · have h := h.2 hb
      refine hp_iconst E (1 : Int32) (by decide) dX1_rent_104 (rfl : 104 + 1 = 105) ?_
      refine hp_goto E (tgt := 109) dX1_rent_105 (by decide) ?_
      exact b109 _ _ _ _ _ _ _ _ _ _ _ h (lv_sub hl [1, 2, 3, 4, 5, 0] rfl) hR hm
  have b41 : ∀ (r5 : Nat) (r6 : Nat) (S : hp_St) (H : Heap) (locs : List Loc) (ls : Array Slot), wb_X1_rent_41 o a1 a2 a3 a4 r5 r6 S Q → lv_has ls 9 [(0, hp_v B o), (1, .int a1), (4, .int a4), (5, hp_v B r5), (6, hp_v B r6)] → hp_S B D s0 S H locs → hp_mono Si S → W p l e ({ frames := 9, cells := 5, slots := 219, locals := 576 } : Room) s m args below meth c H locs 0 0 (MQ below (hp_Qi B D s0 (fun r S' => hp_mono Si S' ∧ Q r S')) args s 5 219 (fun q => B < q)) (F0 m 41 ls []) := by
    intro r5 r6 S H locs ls h hl hR hm
    unfold wb_X1_rent_41 at h
    refine hp_iload E hl 2 rfl dX1_rent_41 (rfl : 41 + 2 = 43) ?_
    refine hp_iconst E (1 : Int32) (by decide) dX1_rent_43 (rfl : 43 + 1 = 44) ?_
    refine hp_bipush E (99 : Int32) (by decide) dX1_rent_44 (rfl : 44 + 2 = 46) ?_
    refine hp_fi (hp_rS E hR hl (m_X1_in G _ _ _ _ _ h) q394 q395 q73 q396 nf_X1_in ⟨Nat.le_of_ble_eq_true rfl, Nat.le_of_ble_eq_true rfl⟩ (rest := []) rfl (Nat.le_of_ble_eq_true rfl) dX1_rent_46 ⟨Nat.le_of_ble_eq_true rfl, Nat.le_of_ble_eq_true rfl⟩) hR (rfl : 46 + 3 = 49) (fun z4101 Sx H locs hq hR => ?_)
    obtain ⟨hSx, h⟩ := hq
    rw [hSx] at hR
    refine hp_if_eq E dX1_rent_49 (rfl : 49 + 3 = 52) (tgt := 64) (by decide) (fun hb => ?_) (fun hb => ?_)
    · have h := h.1 hb
      exact b64 _ _ _ _ h (lv_sub hl [] rfl) hR hm
    · have h := h.2 hb
      refine hp_aload_n E hl 0 rfl 0 rfl dX1_rent_52 (rfl : 52 + 1 = 53) ?_
      refine hp_getR E hR in_X1 (hp_mono.c hm hc0) rfl 9 (Nat.le_of_ble_eq_true rfl) rfl q329 (fun _ h => h) dX1_rent_53 (rfl : 53 + 3 = 56) ?_
      obtain ⟨hc4102, h⟩ := h
      refine hp_fi (hp_rV E hR hl (m_J2_size G _ _ _ hc4102 h) hc4102 (ci := 16) rfl rfl q691 q545 q546 q78 q547 nf_J2_size ⟨Nat.le_of_ble_eq_true rfl, Nat.le_of_ble_eq_true rfl⟩ (rest := []) rfl (Nat.le_of_ble_eq_true rfl) dX1_rent_56 ⟨Nat.le_of_ble_eq_true rfl, Nat.le_of_ble_eq_true rfl⟩) hR (rfl : 56 + 3 = 59) (fun z4103 Sx H locs hq hR => ?_)
      obtain ⟨hSx, h⟩ := hq
      rw [hSx] at hR
      refine hp_bipush E (16 : Int32) (by decide) dX1_rent_59 (rfl : 59 + 2 = 61) ?_
      refine hp_icmp_ne E dX1_rent_61 (rfl : 61 + 3 = 64) (tgt := 66) (by decide) (fun hb => ?_) (fun hb => ?_)
      · have h := h.1 hb
        exact b64 _ _ _ _ h (lv_sub hl [] rfl) hR hm
      · have h := h.2 hb
        refine hp_aload E hl 4 rfl dX1_rent_66 (rfl : 66 + 2 = 68) ?_
        refine hp_ifnonnull E dX1_rent_68 (rfl : 68 + 3 = 71) (tgt := 76) (by decide) (fun hb => ?_) (fun hb => ?_)
        · have h := h.1 hb
          refine hp_aload E hl 3 rfl dX1_rent_71 (rfl : 71 + 2 = 73) ?_
          refine hp_goto E (tgt := 87) dX1_rent_73 (by decide) ?_
          exact b87 _ _ _ _ _ _ _ h hl hR hm
        · have h := h.2 hb
          refine hp_aload E hl 3 rfl dX1_rent_76 (rfl : 76 + 2 = 78) ?_
          refine hp_aload E hl 4 rfl dX1_rent_78 (rfl : 78 + 2 = 80) ?_
          refine hp_aload_n E hl 0 rfl 0 rfl dX1_rent_80 (rfl : 80 + 1 = 81) ?_
          refine hp_getI E hR in_X1 (hp_mono.c hm hc0) rfl 4 (Nat.le_of_ble_eq_true rfl) rfl q320 (fun _ h => h) dX1_rent_81 (rfl : 81 + 3 = 84) ?_
          refine hp_fa (hp_rS E hR hl (m_X1_younger G _ _ _ _ _ h) q774 q775 q73 q776 nf_X1_younger ⟨Nat.le_of_ble_eq_true rfl, Nat.le_of_ble_eq_true rfl⟩ (rest := []) rfl (Nat.le_of_ble_eq_true rfl) dX1_rent_84 ⟨Nat.le_of_ble_eq_true rfl, Nat.le_of_ble_eq_true rfl⟩) hR (rfl : 84 + 3 = 87) (fun z4104 Sx H locs hq hR => ?_)
          obtain ⟨hSx, h⟩ := hq
          rw [hSx] at hR
          exact b87 _ _ _ _ _ _ _ h hl hR hm
  unfold wp_X1_rent at h
  refine hp_aload_n E hl 0 rfl 0 rfl dX1_rent_0 (rfl : 0 + 1 = 1) ?_
  refine hp_iload_n E hl 2 rfl 2 rfl dX1_rent_1 (rfl : 1 + 1 = 2) ?_
  refine hp_fa (hp_rV E hR hl (m_X1_aLife G _ _ _ _ hc0 h) hc0 (ci := 0) rfl rfl q723 q725 qs16 q73 q726 nf_X1_aLife ⟨Nat.le_of_ble_eq_true rfl, Nat.le_of_ble_eq_true rfl⟩ (rest := []) rfl (Nat.le_of_ble_eq_true rfl) dX1_rent_2 ⟨Nat.le_of_ble_eq_true rfl, Nat.le_of_ble_eq_true rfl⟩) hR (rfl : 2 + 3 = 5) (fun z1 Sx H locs hq hR => ?_)
  obtain ⟨hSx, h⟩ := hq
  rw [hSx] at hR
  refine hp_astore E hl 5 (lv' := [(0, hp_v B o), (1, .int a1), (2, .int a2), (3, .int a3), (4, .int a4)]) dX1_rent_5 (rfl : 5 + 2 = 7) (by decide) rfl (fun ls hl => ?_)
  refine hp_aload_n E hl 0 rfl 1 rfl dX1_rent_7 (rfl : 7 + 1 = 8) ?_
  refine hp_iload_n E hl 3 rfl 4 rfl dX1_rent_8 (rfl : 8 + 1 = 9) ?_
  refine hp_fa (hp_rV E hR hl (m_X1_aLife G _ _ _ _ hc0 h) hc0 (ci := 0) rfl rfl q723 q725 qs16 q73 q726 nf_X1_aLife ⟨Nat.le_of_ble_eq_true rfl, Nat.le_of_ble_eq_true rfl⟩ (rest := []) rfl (Nat.le_of_ble_eq_true rfl) dX1_rent_9 ⟨Nat.le_of_ble_eq_true rfl, Nat.le_of_ble_eq_true rfl⟩) hR (rfl : 9 + 3 = 12) (fun z2 Sx H locs hq hR => ?_)
  obtain ⟨hSx, h⟩ := hq
  rw [hSx] at hR
  refine hp_astore E hl 6 (lv' := [(5, hp_v B z1), (0, hp_v B o), (1, .int a1), (2, .int a2), (3, .int a3), (4, .int a4)]) dX1_rent_12 (rfl : 12 + 2 = 14) (by decide) (by simp [hp_vc, hp_ci, hp_cj]) (fun ls hl => ?_)
  refine hp_iload_n E hl 1 rfl 3 rfl dX1_rent_14 (rfl : 14 + 1 = 15) ?_
  refine hp_fi (hp_rS E hR hl (m_X1_isHolder G _ _ _ h) q771 q772 q73 q773 nf_X1_isHolder ⟨Nat.le_of_ble_eq_true rfl, Nat.le_of_ble_eq_true rfl⟩ (rest := []) rfl (Nat.le_of_ble_eq_true rfl) dX1_rent_15 ⟨Nat.le_of_ble_eq_true rfl, Nat.le_of_ble_eq_true rfl⟩) hR (rfl : 15 + 3 = 18) (fun z3 Sx H locs hq hR => ?_)
  obtain ⟨hSx, h⟩ := hq
  rw [hSx] at hR
  refine hp_if_eq E dX1_rent_18 (rfl : 18 + 3 = 21) (tgt := 64) (by decide) (fun hb => ?_) (fun hb => ?_)
  · have h := h.1 hb
    exact b64 _ _ _ _ h (lv_sub hl [] rfl) hR hm
  · have h := h.2 hb
    refine hp_aload E hl 1 rfl dX1_rent_21 (rfl : 21 + 2 = 23) ?_
    refine hp_ifnull E dX1_rent_23 (rfl : 23 + 3 = 26) (tgt := 64) (by decide) (fun hb => ?_) (fun hb => ?_)
    · have h := h.1 hb
      exact b64 _ _ _ _ h (lv_sub hl [] rfl) hR hm
    · have h := h.2 hb
      refine hp_iload_n E hl 3 rfl 5 rfl dX1_rent_26 (rfl : 26 + 1 = 27) ?_
      refine hp_iconst E (-1 : Int32) (by decide) dX1_rent_27 (rfl : 27 + 1 = 28) ?_
      refine hp_icmp_eq E dX1_rent_28 (rfl : 28 + 3 = 31) (tgt := 41) (by decide) (fun hb => ?_) (fun hb => ?_)
      · have h := h.1 hb
        exact b41 _ _ _ _ _ _ h (lv_sub hl [2, 3, 6, 1, 0] rfl) hR hm
      · have h := h.2 hb
        refine hp_aload E hl 0 rfl dX1_rent_31 (rfl : 31 + 2 = 33) ?_
        refine hp_ifnull E dX1_rent_33 (rfl : 33 + 3 = 36) (tgt := 64) (by decide) (fun hb => ?_) (fun hb => ?_)
        · have h := h.1 hb
          exact b64 _ _ _ _ h (lv_sub hl [] rfl) hR hm
        · have h := h.2 hb
          refine hp_iload_n E hl 3 rfl 5 rfl dX1_rent_36 (rfl : 36 + 1 = 37) ?_
          refine hp_iload_n E hl 2 rfl 4 rfl dX1_rent_37 (rfl : 37 + 1 = 38) ?_
          refine hp_icmp_eq E dX1_rent_38 (rfl : 38 + 3 = 41) (tgt := 64) (by decide) (fun hb => ?_) (fun hb => ?_)
          · have h := h.1 hb
            exact b64 _ _ _ _ h (lv_sub hl [] rfl) hR hm
          · have h := h.2 hb
            exact b41 _ _ _ _ _ _ h (lv_sub hl [2, 3, 6, 1, 0] rfl) hR hm
def wb_X1_aRent_32 (o : Nat) (a1 : Int32) (t0 : Nat) (S : hp_St) (Q : Nat → Prop) : Prop := Q t0
def wp_X1_aRent (o : Nat) (a1 : Int32) (S : hp_St) (Q : Nat → Prop) : Prop := (st_C S (st_R S o 9) = 17) ∧ wp_J2_size (st_R S o 9) S (fun z2 => wp_X1_in a1 (0 : Int32) (z2 - (1 : Int32)) S (fun z3 => (((z3 = 0) → wb_X1_aRent_32 o a1 0 S Q) ∧ ((¬ (z3 = 0)) → wp_J2_get (st_R S o 9) a1 S (fun z4 => (st_C S z4 = 11 ∨ st_C S z4 = 12) ∧ wb_X1_aRent_32 o a1 z4 S Q)))))
theorem nf_X1_aRent : hp_nf yX1_aRent 1 = true := by decide +kernel
set_option maxHeartbeats 4000000 in
theorem m_X1_aRent {l : Launch} {B : Nat} {D : va_G} {s0 : State} {b0 : Nat} (G : hp_G l B D s0 b0) (o : Nat) (a1 : Int32) (Si : hp_St) (Q : Nat → Prop) (hc0 : st_C Si o = 1) (h : wp_X1_aRent o a1 Si Q) : hp_M l B D s0 yX1_aRent cX1_aRent 2 (some (.object "LifeRents$Rent")) 5 320 0 0 [hp_v B o, .int a1] Si (hp_Qa B D s0 (fun r S' => S' = Si ∧ Q r)) := by
  refine hp_start G (by decide +kernel) rfl rfl (lv := [(0, hp_v B o), (1, .int a1)]) (by simp [lg_sl, hp_vc, hp_ci, hp_cj]) (by simp [lv_args, hp_vc, hp_ci, hp_cj]) ?_
  intro p e s m args below meth c E ls hl hR
  generalize hH : s.heap = H at hR ⊢
  generalize hLo : ([] : List Loc) = locs at hR ⊢
  have b32 : ∀ (t0 : Nat) (H : Heap) (locs : List Loc) (ls : Array Slot), wb_X1_aRent_32 o a1 t0 Si Q → lv_has ls 2 [] → hp_S B D s0 Si H locs → W p l e ({ frames := 5, cells := 0, slots := 0, locals := 320 } : Room) s m args below meth c H locs 0 0 (MQ below (hp_Qa B D s0 (fun r S' => S' = Si ∧ Q r)) args s 0 0 (fun q => B < q)) (F0 m 32 ls [hp_v B t0]) := by
    intro t0 H locs ls h hl hR
    unfold wb_X1_aRent_32 at h
    exact hp_aret E hR (Or.inl ⟨_, rfl⟩) ⟨rfl, h⟩ (Nat.le_of_ble_eq_true rfl) (Nat.le_of_ble_eq_true rfl) dX1_aRent_32
  unfold wp_X1_aRent at h
  refine hp_iload_n E hl 1 rfl 1 rfl dX1_aRent_0 (rfl : 0 + 1 = 1) ?_
  refine hp_iconst E (0 : Int32) (by decide) dX1_aRent_1 (rfl : 1 + 1 = 2) ?_
  refine hp_aload_n E hl 0 rfl 0 rfl dX1_aRent_2 (rfl : 2 + 1 = 3) ?_
  refine hp_getR E hR in_X1 hc0 rfl 9 (Nat.le_of_ble_eq_true rfl) rfl q329 (fun _ h => h) dX1_aRent_3 (rfl : 3 + 3 = 6) ?_
  obtain ⟨hc1, h⟩ := h
  refine hp_fi (hp_rV E hR hl (m_J2_size G _ _ _ hc1 h) hc1 (ci := 16) rfl rfl q691 q545 q546 q78 q547 nf_J2_size ⟨Nat.le_of_ble_eq_true rfl, Nat.le_of_ble_eq_true rfl⟩ (rest := [.int (0 : Int32), .int a1]) rfl (Nat.le_of_ble_eq_true rfl) dX1_aRent_6 ⟨Nat.le_of_ble_eq_true rfl, Nat.le_of_ble_eq_true rfl⟩) hR (rfl : 6 + 3 = 9) (fun z2 Sx H locs hq hR => ?_)
  obtain ⟨hSx, h⟩ := hq
  rw [hSx] at hR
  refine hp_iconst E (1 : Int32) (by decide) dX1_aRent_9 (rfl : 9 + 1 = 10) ?_
  refine hp_isub E dX1_aRent_10 (rfl : 10 + 1 = 11) ?_
  refine hp_fi (hp_rS E hR hl (m_X1_in G _ _ _ _ _ h) q394 q395 q73 q396 nf_X1_in ⟨Nat.le_of_ble_eq_true rfl, Nat.le_of_ble_eq_true rfl⟩ (rest := []) rfl (Nat.le_of_ble_eq_true rfl) dX1_aRent_11 ⟨Nat.le_of_ble_eq_true rfl, Nat.le_of_ble_eq_true rfl⟩) hR (rfl : 11 + 3 = 14) (fun z3 Sx H locs hq hR => ?_)
  obtain ⟨hSx, h⟩ := hq
  rw [hSx] at hR
  refine hp_if_eq E dX1_aRent_14 (rfl : 14 + 3 = 17) (tgt := 31) (by decide) (fun hb => ?_) (fun hb => ?_)
  · have h := h.1 hb
    refine hp_null E dX1_aRent_31 (rfl : 31 + 1 = 32) ?_
    exact b32 _ _ _ _ h (lv_sub hl [] rfl) hR
  · have h := h.2 hb
    refine hp_aload_n E hl 0 rfl 0 rfl dX1_aRent_17 (rfl : 17 + 1 = 18) ?_
    refine hp_getR E hR in_X1 hc0 rfl 9 (Nat.le_of_ble_eq_true rfl) rfl q329 (fun _ h => h) dX1_aRent_18 (rfl : 18 + 3 = 21) ?_
    refine hp_iload_n E hl 1 rfl 1 rfl dX1_aRent_21 (rfl : 21 + 1 = 22) ?_
    refine hp_fa (hp_rV E hR hl (m_J2_get G _ _ _ _ hc1 h) hc1 (ci := 16) rfl rfl q727 q728 q729 q78 q730 nf_J2_get ⟨Nat.le_of_ble_eq_true rfl, Nat.le_of_ble_eq_true rfl⟩ (rest := []) rfl (Nat.le_of_ble_eq_true rfl) dX1_aRent_22 ⟨Nat.le_of_ble_eq_true rfl, Nat.le_of_ble_eq_true rfl⟩) hR (rfl : 22 + 3 = 25) (fun z4 Sx H locs hq hR => ?_)
    obtain ⟨hSx, h⟩ := hq
    rw [hSx] at hR
    obtain ⟨hc5, h⟩ := h
    refine hp_or2 hc5 (fun hc kk => hp_castS E hR hc (ci := 10) rfl q778 dX1_aRent_25 (rfl : 25 + 3 = 28) kk) (fun hc kk => hp_castY E hR hc (ci := 11) rfl q778 q1724 dX1_aRent_25 (rfl : 25 + 3 = 28) kk) ?_
    refine hp_goto E (tgt := 32) dX1_aRent_28 (by decide) ?_
    exact b32 _ _ _ _ h (lv_sub hl [] rfl) hR
def wb_X11_parts_102 (o : Nat) (a1 : Int32) (a2 : Int32) (v3 : Int32) (v4 : Int32) (S : hp_St) (K28 : Int32 → Int32 → Prop) (Q : Int32 → Prop) : Prop := K28 v3 (v4 + (1 : Int32))
def wb_X11_parts_100 (o : Nat) (a1 : Int32) (a2 : Int32) (v4 : Int32) (t0 : Int32) (t1 : Int32) (S : hp_St) (K28 : Int32 → Int32 → Prop) (Q : Int32 → Prop) : Prop := wb_X11_parts_102 o a1 a2 (t0 + t1) v4 S K28 Q
def wb_X11_parts_28 (o : Nat) (a1 : Int32) (a2 : Int32) (v3 : Int32) (v4 : Int32) (S : hp_St) (K28 : Int32 → Int32 → Prop) (Q : Int32 → Prop) : Prop := (st_C S (st_R S o 6) = 17) ∧ wp_J2_size (st_R S o 6) S (fun z2802 => (((v4 < z2802) → wp_J2_get (st_R S o 6) v4 S (fun z2803 => (st_C S z2803 = 13) ∧ ((((st_I S z2803 0) ≤ a2) → ((((st_I S z2803 2) = a1) → wb_X11_parts_100 o a1 a2 v4 v3 (st_I S z2803 3) S K28 Q) ∧ ((¬ ((st_I S z2803 2) = a1)) → ((((st_I S z2803 1) = a1) → wb_X11_parts_100 o a1 a2 v4 v3 (-(st_I S z2803 3)) S K28 Q) ∧ ((¬ ((st_I S z2803 1) = a1)) → wb_X11_parts_100 o a1 a2 v4 v3 (0 : Int32) S K28 Q))))) ∧ ((¬ ((st_I S z2803 0) ≤ a2)) → wb_X11_parts_102 o a1 a2 v3 v4 S K28 Q)))) ∧ ((¬ (v4 < z2802)) → Q v3)))
def wl_X11_parts_28 (o : Nat) (a1 : Int32) (a2 : Int32) (v3 : Int32) (v4 : Int32) (S : hp_St) (Q : Int32 → Prop) : Prop := ∃ (I : Int32 → Int32 → Prop) (μ : Int32 → Int32 → Nat), I v3 v4 ∧ ∀ (v3 : Int32) (v4 : Int32), I v3 v4 → wb_X11_parts_28 o a1 a2 v3 v4 S (fun v3' v4' => I v3' v4' ∧ μ v3' v4' < μ v3 v4) Q
def wb_X11_parts_24 (o : Nat) (a1 : Int32) (a2 : Int32) (t0 : Int32) (S : hp_St) (Q : Int32 → Prop) : Prop := wl_X11_parts_28 o a1 a2 t0 (0 : Int32) S Q
def wp_X11_parts (o : Nat) (a1 : Int32) (a2 : Int32) (S : hp_St) (Q : Int32 → Prop) : Prop := (((a2 < (st_I S o 1)) → Q (0 : Int32)) ∧ ((¬ (a2 < (st_I S o 1))) → (((a1 = (st_I S o 0)) → wb_X11_parts_24 o a1 a2 (60 : Int32) S Q) ∧ ((¬ (a1 = (st_I S o 0))) → wb_X11_parts_24 o a1 a2 (0 : Int32) S Q))))
theorem nf_X11_parts : hp_nf yX11_parts 2 = true := by decide +kernel
set_option maxHeartbeats 4000000 in
theorem m_X11_parts {l : Launch} {B : Nat} {D : va_G} {s0 : State} {b0 : Nat} (G : hp_G l B D s0 b0) (o : Nat) (a1 : Int32) (a2 : Int32) (Si : hp_St) (Q : Int32 → Prop) (hc0 : st_C Si o = 11 ∨ st_C Si o = 12) (h : wp_X11_parts o a1 a2 Si Q) : hp_M l B D s0 yX11_parts cX11_parts 6 (some .int) 5 320 0 0 [hp_v B o, .int a1, .int a2] Si (hp_Qi B D s0 (fun r S' => S' = Si ∧ Q r)) := by
  refine hp_start G (by decide +kernel) rfl rfl (lv := [(0, hp_v B o), (1, .int a1), (2, .int a2)]) (by simp [lg_sl, hp_vc, hp_ci, hp_cj]) (by simp [lv_args, hp_vc, hp_ci, hp_cj]) ?_
  intro p e s m args below meth c E ls hl hR
  generalize hH : s.heap = H at hR ⊢
  generalize hLo : ([] : List Loc) = locs at hR ⊢
  have b28 : ∀ (v3 : Int32) (v4 : Int32) (H : Heap) (locs : List Loc) (ls : Array Slot), wl_X11_parts_28 o a1 a2 v3 v4 Si Q → lv_has ls 6 [(0, hp_v B o), (1, .int a1), (2, .int a2), (3, .int v3), (4, .int v4)] → hp_S B D s0 Si H locs → W p l e ({ frames := 5, cells := 0, slots := 0, locals := 320 } : Room) s m args below meth c H locs 0 0 (MQ below (hp_Qi B D s0 (fun r S' => S' = Si ∧ Q r)) args s 0 0 (fun q => B < q)) (F0 m 28 ls []) := by
    intro v3 v4 H locs ls h hl hR
    obtain ⟨I28, μ28, hI, hst⟩ := h
    have key28 : ∀ (N : Nat) (v3 : Int32) (v4 : Int32) (H : Heap) (locs : List Loc) (ls : Array Slot), μ28 v3 v4 < N → I28 v3 v4 → lv_has ls 6 [(0, hp_v B o), (1, .int a1), (2, .int a2), (3, .int v3), (4, .int v4)] → hp_S B D s0 Si H locs → W p l e ({ frames := 5, cells := 0, slots := 0, locals := 320 } : Room) s m args below meth c H locs 0 0 (MQ below (hp_Qi B D s0 (fun r S' => S' = Si ∧ Q r)) args s 0 0 (fun q => B < q)) (F0 m 28 ls []) := by
      intro N
      induction N with
      | zero =>
        intro v3 v4 H locs ls hN
        exact absurd hN (Nat.not_lt_zero _)
      | succ N ih28 =>
        intro v3 v4 H locs ls hN hI hl hR
        have h := hst v3 v4 hI
        obtain ⟨K28, hKe28⟩ : ∃ K : Int32 → Int32 → Prop, K = (fun v3' v4' => I28 v3' v4' ∧ μ28 v3' v4' < μ28 v3 v4) := ⟨_, rfl⟩
        rw [← hKe28] at h
        have hK28 : ∀ (v3' : Int32) (v4' : Int32) (H : Heap) (locs : List Loc) (ls : Array Slot), K28 v3' v4' → lv_has ls 6 [(0, hp_v B o), (1, .int a1), (2, .int a2), (3, .int (v3')), (4, .int (v4'))] → hp_S B D s0 Si H locs → W p l e ({ frames := 5, cells := 0, slots := 0, locals := 320 } : Room) s m args below meth c H locs 0 0 (MQ below (hp_Qi B D s0 (fun r S' => S' = Si ∧ Q r)) args s 0 0 (fun q => B < q)) (F0 m 28 ls []) := by
          intro v3' v4' H locs ls hI hl hR
          rw [hKe28] at hI
          exact ih28 v3' v4' H locs ls (Nat.lt_of_lt_of_le hI.2 (Nat.le_of_lt_succ hN)) hI.1 hl hR
        have b102 : ∀ (v3 : Int32) (v4 : Int32) (H : Heap) (locs : List Loc) (ls : Array Slot), wb_X11_parts_102 o a1 a2 v3 v4 Si K28 Q → lv_has ls 6 [(0, hp_v B o), (1, .int a1), (2, .int a2), (3, .int v3), (4, .int v4)] → hp_S B D s0 Si H locs → W p l e ({ frames := 5, cells := 0, slots := 0, locals := 320 } : Room) s m args below meth c H locs 0 0 (MQ below (hp_Qi B D s0 (fun r S' => S' = Si ∧ Q r)) args s 0 0 (fun q => B < q)) (F0 m 102 ls []) := by
          intro v3 v4 H locs ls h hl hR
          unfold wb_X11_parts_102 at h
          refine hp_iinc E hl (v4 + (1 : Int32)) 4 (lv' := [(0, hp_v B o), (1, .int a1), (2, .int a2), (3, .int v3)]) dX11_parts_102 (rfl : 102 + 3 = 105) rfl (by first | rfl | (congr 1)) (by decide) rfl (fun ls hl => ?_)
          refine hp_goto E (tgt := 28) dX11_parts_105 (by decide) ?_
          exact hK28 _ _ _ _ _ h (lv_sub hl [1, 2, 3, 4, 0] rfl) hR
        have b100 : ∀ (v4 : Int32) (t0 : Int32) (t1 : Int32) (H : Heap) (locs : List Loc) (ls : Array Slot), wb_X11_parts_100 o a1 a2 v4 t0 t1 Si K28 Q → lv_has ls 6 [(0, hp_v B o), (1, .int a1), (2, .int a2), (4, .int v4)] → hp_S B D s0 Si H locs → W p l e ({ frames := 5, cells := 0, slots := 0, locals := 320 } : Room) s m args below meth c H locs 0 0 (MQ below (hp_Qi B D s0 (fun r S' => S' = Si ∧ Q r)) args s 0 0 (fun q => B < q)) (F0 m 100 ls [.int t1, .int t0]) := by
          intro v4 t0 t1 H locs ls h hl hR
          unfold wb_X11_parts_100 at h
          refine hp_iadd E dX11_parts_100 (rfl : 100 + 1 = 101) ?_
          refine hp_istore_n E hl 3 rfl (lv' := [(0, hp_v B o), (1, .int a1), (2, .int a2), (4, .int v4)]) dX11_parts_101 (rfl : 101 + 1 = 102) (by decide) rfl (fun ls hl => ?_)
          exact b102 _ _ _ _ _ h (lv_sub hl [1, 2, 3, 0, 4] rfl) hR
        unfold wb_X11_parts_28 at h
        refine hp_iload E hl 4 rfl dX11_parts_28 (rfl : 28 + 2 = 30) ?_
        refine hp_aload_n E hl 0 rfl 0 rfl dX11_parts_30 (rfl : 30 + 1 = 31) ?_
        refine hp_or2 hc0 (fun hc kk => hp_getR E hR in_X11 hc rfl 6 (Nat.le_of_ble_eq_true rfl) rfl q801 (fun _ h => h) dX11_parts_31 (rfl : 31 + 3 = 34) kk) (fun hc kk => hp_getR E hR in_X12 hc rfl 6 (Nat.le_of_ble_eq_true rfl) rfl q801 (fun _ h => h) dX11_parts_31 (rfl : 31 + 3 = 34) kk) ?_
        obtain ⟨hc2801, h⟩ := h
        refine hp_fi (hp_rV E hR hl (m_J2_size G _ _ _ hc2801 h) hc2801 (ci := 16) rfl rfl q849 q545 q546 q78 q547 nf_J2_size ⟨Nat.le_of_ble_eq_true rfl, Nat.le_of_ble_eq_true rfl⟩ (rest := [.int v4]) rfl (Nat.le_of_ble_eq_true rfl) dX11_parts_34 ⟨Nat.le_of_ble_eq_true rfl, Nat.le_of_ble_eq_true rfl⟩) hR (rfl : 34 + 3 = 37) (fun z2802 Sx H locs hq hR => ?_)
        obtain ⟨hSx, h⟩ := hq
        rw [hSx] at hR
        refine hp_icmp_ge E dX11_parts_37 (rfl : 37 + 3 = 40) (tgt := 108) (by decide) (fun hb => ?_) (fun hb => ?_)
        · have h := h.1 hb
          refine hp_aload_n E hl 0 rfl 0 rfl dX11_parts_40 (rfl : 40 + 1 = 41) ?_
          refine hp_or2 hc0 (fun hc kk => hp_getR E hR in_X11 hc rfl 6 (Nat.le_of_ble_eq_true rfl) rfl q801 (fun _ h => h) dX11_parts_41 (rfl : 41 + 3 = 44) kk) (fun hc kk => hp_getR E hR in_X12 hc rfl 6 (Nat.le_of_ble_eq_true rfl) rfl q801 (fun _ h => h) dX11_parts_41 (rfl : 41 + 3 = 44) kk) ?_
          refine hp_iload E hl 4 rfl dX11_parts_44 (rfl : 44 + 2 = 46) ?_
          refine hp_fa (hp_rV E hR hl (m_J2_get G _ _ _ _ hc2801 h) hc2801 (ci := 16) rfl rfl q850 q728 q729 q78 q730 nf_J2_get ⟨Nat.le_of_ble_eq_true rfl, Nat.le_of_ble_eq_true rfl⟩ (rest := []) rfl (Nat.le_of_ble_eq_true rfl) dX11_parts_46 ⟨Nat.le_of_ble_eq_true rfl, Nat.le_of_ble_eq_true rfl⟩) hR (rfl : 46 + 3 = 49) (fun z2803 Sx H locs hq hR => ?_)
          obtain ⟨hSx, h⟩ := hq
          rw [hSx] at hR
          obtain ⟨hc2804, h⟩ := h
          refine hp_castS E hR hc2804 (ci := 12) rfl q851 dX11_parts_49 (rfl : 49 + 3 = 52) ?_
          refine hp_astore E hl 5 (lv' := [(0, hp_v B o), (1, .int a1), (2, .int a2), (3, .int v3), (4, .int v4)]) dX11_parts_52 (rfl : 52 + 2 = 54) (by decide) rfl (fun ls hl => ?_)
          refine hp_aload E hl 0 rfl dX11_parts_54 (rfl : 54 + 2 = 56) ?_
          refine hp_getIN E hR in_X13 hc2804 rfl 0 (Nat.le_of_ble_eq_true rfl) rfl q859 (fun _ h => h) dX11_parts_56 (rfl : 56 + 3 = 59) ?_
          refine hp_iload_n E hl 2 rfl 3 rfl dX11_parts_59 (rfl : 59 + 1 = 60) ?_
          refine hp_icmp_gt E dX11_parts_60 (rfl : 60 + 3 = 63) (tgt := 102) (by decide) (fun hb => ?_) (fun hb => ?_)
          · have h := h.1 hb
            refine hp_iload_n E hl 3 rfl 4 rfl dX11_parts_63 (rfl : 63 + 1 = 64) ?_
            refine hp_aload E hl 0 rfl dX11_parts_64 (rfl : 64 + 2 = 66) ?_
            refine hp_getIN E hR in_X13 hc2804 rfl 2 (Nat.le_of_ble_eq_true rfl) rfl q863 (fun _ h => h) dX11_parts_66 (rfl : 66 + 3 = 69) ?_
            refine hp_iload_n E hl 1 rfl 2 rfl dX11_parts_69 (rfl : 69 + 1 = 70) ?_
            refine hp_icmp_ne E dX11_parts_70 (rfl : 70 + 3 = 73) (tgt := 81) (by decide) (fun hb => ?_) (fun hb => ?_)
            · have h := h.1 hb
              refine hp_aload E hl 0 rfl dX11_parts_73 (rfl : 73 + 2 = 75) ?_
              refine hp_getIN E hR in_X13 hc2804 rfl 3 (Nat.le_of_ble_eq_true rfl) rfl q865 (fun _ h => h) dX11_parts_75 (rfl : 75 + 3 = 78) ?_
              refine hp_goto E (tgt := 100) dX11_parts_78 (by decide) ?_
              exact b100 _ _ _ _ _ _ h (lv_sub hl [1, 2, 3, 5] rfl) hR
            · have h := h.2 hb
              refine hp_aload E hl 0 rfl dX11_parts_81 (rfl : 81 + 2 = 83) ?_
              refine hp_getIN E hR in_X13 hc2804 rfl 1 (Nat.le_of_ble_eq_true rfl) rfl q861 (fun _ h => h) dX11_parts_83 (rfl : 83 + 3 = 86) ?_
              refine hp_iload_n E hl 1 rfl 2 rfl dX11_parts_86 (rfl : 86 + 1 = 87) ?_
              refine hp_icmp_ne E dX11_parts_87 (rfl : 87 + 3 = 90) (tgt := 99) (by decide) (fun hb => ?_) (fun hb => ?_)
              · have h := h.1 hb
                refine hp_aload E hl 0 rfl dX11_parts_90 (rfl : 90 + 2 = 92) ?_
                refine hp_getIN E hR in_X13 hc2804 rfl 3 (Nat.le_of_ble_eq_true rfl) rfl q865 (fun _ h => h) dX11_parts_92 (rfl : 92 + 3 = 95) ?_
                refine hp_ineg E dX11_parts_95 (rfl : 95 + 1 = 96) ?_
                refine hp_goto E (tgt := 100) dX11_parts_96 (by decide) ?_
                exact b100 _ _ _ _ _ _ h (lv_sub hl [1, 2, 3, 5] rfl) hR
              · have h := h.2 hb
                refine hp_iconst E (0 : Int32) (by decide) dX11_parts_99 (rfl : 99 + 1 = 100) ?_
                exact b100 _ _ _ _ _ _ h (lv_sub hl [1, 2, 3, 5] rfl) hR
          · have h := h.2 hb
            exact b102 _ _ _ _ _ h (lv_sub hl [1, 2, 3, 4, 5] rfl) hR
        · have h := h.2 hb
          refine hp_iload_n E hl 3 rfl 3 rfl dX11_parts_108 (rfl : 108 + 1 = 109) ?_
          exact hp_iret E hR ⟨rfl, h⟩ (Nat.le_of_ble_eq_true rfl) (Nat.le_of_ble_eq_true rfl) dX11_parts_109
    exact key28 (μ28 v3 v4 + 1) v3 v4 H locs ls (Nat.lt_succ_self _) hI hl hR
  have b24 : ∀ (t0 : Int32) (H : Heap) (locs : List Loc) (ls : Array Slot), wb_X11_parts_24 o a1 a2 t0 Si Q → lv_has ls 6 [(0, hp_v B o), (1, .int a1), (2, .int a2)] → hp_S B D s0 Si H locs → W p l e ({ frames := 5, cells := 0, slots := 0, locals := 320 } : Room) s m args below meth c H locs 0 0 (MQ below (hp_Qi B D s0 (fun r S' => S' = Si ∧ Q r)) args s 0 0 (fun q => B < q)) (F0 m 24 ls [.int t0]) := by
    intro t0 H locs ls h hl hR
    unfold wb_X11_parts_24 at h
    refine hp_istore_n E hl 3 rfl (lv' := [(0, hp_v B o), (1, .int a1), (2, .int a2)]) dX11_parts_24 (rfl : 24 + 1 = 25) (by decide) rfl (fun ls hl => ?_)
    refine hp_iconst E (0 : Int32) (by decide) dX11_parts_25 (rfl : 25 + 1 = 26) ?_
    refine hp_istore E hl 4 (lv' := [(3, .int t0), (0, hp_v B o), (1, .int a1), (2, .int a2)]) dX11_parts_26 (rfl : 26 + 2 = 28) (by decide) rfl (fun ls hl => ?_)
    exact b28 _ _ _ _ _ h (lv_sub hl [2, 3, 4, 1, 0] rfl) hR
  unfold wp_X11_parts at h
  refine hp_iload_n E hl 2 rfl 2 rfl dX11_parts_0 (rfl : 0 + 1 = 1) ?_
  refine hp_aload_n E hl 0 rfl 0 rfl dX11_parts_1 (rfl : 1 + 1 = 2) ?_
  refine hp_or2 hc0 (fun hc kk => hp_getI E hR in_X11 hc rfl 1 (Nat.le_of_ble_eq_true rfl) rfl q787 (fun _ h => h) dX11_parts_2 (rfl : 2 + 3 = 5) kk) (fun hc kk => hp_getI E hR in_X12 hc rfl 1 (Nat.le_of_ble_eq_true rfl) rfl q787 (fun _ h => h) dX11_parts_2 (rfl : 2 + 3 = 5) kk) ?_
  refine hp_icmp_ge E dX11_parts_5 (rfl : 5 + 3 = 8) (tgt := 10) (by decide) (fun hb => ?_) (fun hb => ?_)
  · have h := h.1 hb
    refine hp_iconst E (0 : Int32) (by decide) dX11_parts_8 (rfl : 8 + 1 = 9) ?_
    exact hp_iret E hR ⟨rfl, h⟩ (Nat.le_of_ble_eq_true rfl) (Nat.le_of_ble_eq_true rfl) dX11_parts_9
  · have h := h.2 hb
    refine hp_iload_n E hl 1 rfl 1 rfl dX11_parts_10 (rfl : 10 + 1 = 11) ?_
    refine hp_aload_n E hl 0 rfl 0 rfl dX11_parts_11 (rfl : 11 + 1 = 12) ?_
    refine hp_or2 hc0 (fun hc kk => hp_getI E hR in_X11 hc rfl 0 (Nat.le_of_ble_eq_true rfl) rfl q786 (fun _ h => h) dX11_parts_12 (rfl : 12 + 3 = 15) kk) (fun hc kk => hp_getI E hR in_X12 hc rfl 0 (Nat.le_of_ble_eq_true rfl) rfl q786 (fun _ h => h) dX11_parts_12 (rfl : 12 + 3 = 15) kk) ?_
    refine hp_icmp_ne E dX11_parts_15 (rfl : 15 + 3 = 18) (tgt := 23) (by decide) (fun hb => ?_) (fun hb => ?_)
    · have h := h.1 hb
      refine hp_bipush E (60 : Int32) (by decide) dX11_parts_18 (rfl : 18 + 2 = 20) ?_
      refine hp_goto E (tgt := 24) dX11_parts_20 (by decide) ?_
      exact b24 _ _ _ _ h hl hR
    · have h := h.2 hb
      refine hp_iconst E (0 : Int32) (by decide) dX11_parts_23 (rfl : 23 + 1 = 24) ?_
      exact b24 _ _ _ _ h hl hR
def wp_X13_init (o : Nat) (a1 : Int32) (a2 : Int32) (a3 : Int32) (a4 : Int32) (S : hp_St) (Q : hp_St → Prop) : Prop := (∀ S1, S1 = st_pI S o 0 a1 → (∀ S4, S4 = st_pI S1 o 1 a2 → (∀ S7, S7 = st_pI S4 o 2 a3 → (∀ S10, S10 = st_pI S7 o 3 a4 → Q S10))))
theorem nf_X13_init : hp_nf yX13_init 4 = true := by decide +kernel
set_option maxHeartbeats 4000000 in
theorem m_X13_init {l : Launch} {B : Nat} {D : va_G} {s0 : State} {b0 : Nat} (G : hp_G l B D s0 b0) (o : Nat) (a1 : Int32) (a2 : Int32) (a3 : Int32) (a4 : Int32) (Si : hp_St) (Q : hp_St → Prop) (hc0 : st_C Si o = 13) (h : wp_X13_init o a1 a2 a3 a4 Si Q) : hp_M l B D s0 yX13_init cX13_init 5 none 2 128 0 0 [hp_v B o, .int a1, .int a2, .int a3, .int a4] Si (hp_Qv B D s0 (fun S' => hp_mono Si S' ∧ Q S')) := by
  refine hp_start G (by decide +kernel) rfl rfl (lv := [(0, hp_v B o), (1, .int a1), (2, .int a2), (3, .int a3), (4, .int a4)]) (by simp [lg_sl, hp_vc, hp_ci, hp_cj]) (by simp [lv_args, hp_vc, hp_ci, hp_cj]) ?_
  intro p e s m args below meth c E ls hl hR
  have hm : hp_mono Si Si := hp_mono.rf
  unfold wp_X13_init at h
  refine hp_aload_n E hl 0 rfl 0 rfl dX13_init_0 (rfl : 0 + 1 = 1) ?_
  refine hp_obj E hl (hp_ne hR hc0) q857 q115 q116 dX13_init_1 (rfl : 1 + 3 = 4) (Nat.le_of_ble_eq_true rfl) (Nat.le_of_ble_eq_true rfl) (Nat.le_of_ble_eq_true rfl) ?_
  refine hp_aload_n E hl 0 rfl 0 rfl dX13_init_4 (rfl : 4 + 1 = 5) ?_
  refine hp_iload_n E hl 1 rfl 1 rfl dX13_init_5 (rfl : 5 + 1 = 6) ?_
  refine hx_putI E hR in_X13 tyX13 tyX13_ok nmX13 hc0 rfl 0 (Nat.le_of_ble_eq_true rfl) rfl q858 (fun _ h => h) (Or.inr ⟨E.nmm, rfl⟩) (Or.inl rfl) dX13_init_6 (rfl : 6 + 3 = 9) (fun S1 H locs e3 hm2 hR => ?_)
  have h := h S1 e3
  have hm := hp_mono.tr hm hm2
  refine hp_aload_n E hl 0 rfl 0 rfl dX13_init_9 (rfl : 9 + 1 = 10) ?_
  refine hp_iload_n E hl 2 rfl 2 rfl dX13_init_10 (rfl : 10 + 1 = 11) ?_
  refine hx_putI E hR in_X13 tyX13 tyX13_ok nmX13 (hp_mono.c hm hc0) rfl 1 (Nat.le_of_ble_eq_true rfl) rfl q860 (fun _ h => h) (Or.inr ⟨E.nmm, rfl⟩) (Or.inl rfl) dX13_init_11 (rfl : 11 + 3 = 14) (fun S4 H locs e6 hm5 hR => ?_)
  have h := h S4 e6
  have hm := hp_mono.tr hm hm5
  refine hp_aload_n E hl 0 rfl 0 rfl dX13_init_14 (rfl : 14 + 1 = 15) ?_
  refine hp_iload_n E hl 3 rfl 3 rfl dX13_init_15 (rfl : 15 + 1 = 16) ?_
  refine hx_putI E hR in_X13 tyX13 tyX13_ok nmX13 (hp_mono.c hm hc0) rfl 2 (Nat.le_of_ble_eq_true rfl) rfl q862 (fun _ h => h) (Or.inr ⟨E.nmm, rfl⟩) (Or.inl rfl) dX13_init_16 (rfl : 16 + 3 = 19) (fun S7 H locs e9 hm8 hR => ?_)
  have h := h S7 e9
  have hm := hp_mono.tr hm hm8
  refine hp_aload_n E hl 0 rfl 0 rfl dX13_init_19 (rfl : 19 + 1 = 20) ?_
  refine hp_iload E hl 4 rfl dX13_init_20 (rfl : 20 + 2 = 22) ?_
  refine hx_putI E hR in_X13 tyX13 tyX13_ok nmX13 (hp_mono.c hm hc0) rfl 3 (Nat.le_of_ble_eq_true rfl) rfl q864 (fun _ h => h) (Or.inr ⟨E.nmm, rfl⟩) (Or.inl rfl) dX13_init_22 (rfl : 22 + 3 = 25) (fun S10 H locs e12 hm11 hR => ?_)
  have h := h S10 e12
  have hm := hp_mono.tr hm hm11
  exact hp_vret E hR ⟨hm, h⟩ (Nat.le_of_ble_eq_true rfl) (Nat.le_of_ble_eq_true rfl) dX13_init_25
def wb_X1_sell_59 (o : Nat) (a1 : Int32) (a2 : Int32) (a3 : Int32) (a4 : Int32) (S : hp_St) (Q : Int32 → hp_St → Prop) : Prop := Q (0 : Int32) S
def wp_X1_sell (o : Nat) (a1 : Int32) (a2 : Int32) (a3 : Int32) (a4 : Int32) (S : hp_St) (Q : Int32 → hp_St → Prop) : Prop := wp_X1_aRent o a1 S (fun z1 => (((z1 = 0) → wb_X1_sell_59 o a1 a2 a3 a4 S Q) ∧ ((¬ (z1 = 0)) → wp_X1_isHolder a2 S (fun z2 => (((z2 = 0) → wb_X1_sell_59 o a1 a2 a3 a4 S Q) ∧ ((¬ (z2 = 0)) → wp_X1_isHolder a3 S (fun z3 => (((z3 = 0) → wb_X1_sell_59 o a1 a2 a3 a4 S Q) ∧ ((¬ (z3 = 0)) → (((a2 = a3) → wb_X1_sell_59 o a1 a2 a3 a4 S Q) ∧ ((¬ (a2 = a3)) → (st_C S z1 = 11 ∨ st_C S z1 = 12) ∧ hp_virt (fun Kc6 => (st_C S z1 = 11 → wp_X11_parts z1 a2 (st_I S o 4) S Kc6) ∧ (st_C S z1 = 12 → wp_X11_parts z1 a2 (st_I S o 4) S Kc6)) (fun z5 => wp_X1_in a4 (1 : Int32) z5 S (fun z7 => (((z7 = 0) → wb_X1_sell_59 o a1 a2 a3 a4 S Q) ∧ ((¬ (z7 = 0)) → ((((st_I S o 5) = (40 : Int32)) → wb_X1_sell_59 o a1 a2 a3 a4 S Q) ∧ ((¬ ((st_I S o 5) = (40 : Int32))) → (∀ n11 S8, n11 = st_Z S → S8 = st_nA S 13 0 → hp_fr S n11 → wp_X13_init n11 (st_I S8 o 4) a2 a3 a4 S8 (fun S15 => hp_mono S8 S15 → (st_C S15 (st_R S z1 6) = 17) ∧ wp_J2_add (st_R S z1 6) n11 S15 (fun z18 S19 => hp_mono S15 S19 → (∀ S21, S21 = st_pI S19 o 5 ((st_I S19 o 5) + (1 : Int32)) → (∀ S24, S24 = st_pI S21 o 17 (0 : Int32) → Q (1 : Int32) S24))))))))))))))))))))))
theorem nf_X1_sell : hp_nf yX1_sell 4 = true := by decide +kernel
set_option maxHeartbeats 4000000 in
theorem m_X1_sell {l : Launch} {B : Nat} {D : va_G} {s0 : State} {b0 : Nat} (G : hp_G l B D s0 b0) (o : Nat) (a1 : Int32) (a2 : Int32) (a3 : Int32) (a4 : Int32) (Si : hp_St) (Q : Int32 → hp_St → Prop) (hc0 : st_C Si o = 1) (h : wp_X1_sell o a1 a2 a3 a4 Si Q) : hp_M l B D s0 yX1_sell cX1_sell 6 (some .boolean) 9 576 2 68 [hp_v B o, .int a1, .int a2, .int a3, .int a4] Si (hp_Qi B D s0 (fun r S' => hp_mono Si S' ∧ Q r S')) := by
  refine hp_start G (by decide +kernel) rfl rfl (lv := [(0, hp_v B o), (1, .int a1), (2, .int a2), (3, .int a3), (4, .int a4)]) (by simp [lg_sl, hp_vc, hp_ci, hp_cj]) (by simp [lv_args, hp_vc, hp_ci, hp_cj]) ?_
  intro p e s m args below meth c E ls hl hR
  have hm : hp_mono Si Si := hp_mono.rf
  generalize hH : s.heap = H at hR ⊢
  generalize hLo : ([] : List Loc) = locs at hR ⊢
  have b59 : ∀ (S : hp_St) (H : Heap) (locs : List Loc) (ls : Array Slot), wb_X1_sell_59 o a1 a2 a3 a4 S Q → lv_has ls 6 [] → hp_S B D s0 S H locs → hp_mono Si S → W p l e ({ frames := 9, cells := 2, slots := 68, locals := 576 } : Room) s m args below meth c H locs 0 0 (MQ below (hp_Qi B D s0 (fun r S' => hp_mono Si S' ∧ Q r S')) args s 2 68 (fun q => B < q)) (F0 m 59 ls []) := by
    intro S H locs ls h hl hR hm
    unfold wb_X1_sell_59 at h
    refine hp_iconst E (0 : Int32) (by decide) dX1_sell_59 (rfl : 59 + 1 = 60) ?_
    exact hp_zret E hR (Or.inl rfl) ⟨hm, h⟩ (Nat.le_of_ble_eq_true rfl) (Nat.le_of_ble_eq_true rfl) dX1_sell_60
  unfold wp_X1_sell at h
  refine hp_aload_n E hl 0 rfl 0 rfl dX1_sell_0 (rfl : 0 + 1 = 1) ?_
  refine hp_iload_n E hl 1 rfl 1 rfl dX1_sell_1 (rfl : 1 + 1 = 2) ?_
  refine hp_fa (hp_rV E hR hl (m_X1_aRent G _ _ _ _ hc0 h) hc0 (ci := 0) rfl rfl q839 q841 qs17 q73 q842 nf_X1_aRent ⟨Nat.le_of_ble_eq_true rfl, Nat.le_of_ble_eq_true rfl⟩ (rest := []) rfl (Nat.le_of_ble_eq_true rfl) dX1_sell_2 ⟨Nat.le_of_ble_eq_true rfl, Nat.le_of_ble_eq_true rfl⟩) hR (rfl : 2 + 3 = 5) (fun z1 Sx H locs hq hR => ?_)
  obtain ⟨hSx, h⟩ := hq
  rw [hSx] at hR
  refine hp_astore E hl 5 (lv' := [(0, hp_v B o), (1, .int a1), (2, .int a2), (3, .int a3), (4, .int a4)]) dX1_sell_5 (rfl : 5 + 2 = 7) (by decide) rfl (fun ls hl => ?_)
  refine hp_aload E hl 0 rfl dX1_sell_7 (rfl : 7 + 2 = 9) ?_
  refine hp_ifnull E dX1_sell_9 (rfl : 9 + 3 = 12) (tgt := 59) (by decide) (fun hb => ?_) (fun hb => ?_)
  · have h := h.1 hb
    exact b59 _ _ _ _ h (lv_sub hl [] rfl) hR hm
  · have h := h.2 hb
    refine hp_iload_n E hl 2 rfl 3 rfl dX1_sell_12 (rfl : 12 + 1 = 13) ?_
    refine hp_fi (hp_rS E hR hl (m_X1_isHolder G _ _ _ h) q771 q772 q73 q773 nf_X1_isHolder ⟨Nat.le_of_ble_eq_true rfl, Nat.le_of_ble_eq_true rfl⟩ (rest := []) rfl (Nat.le_of_ble_eq_true rfl) dX1_sell_13 ⟨Nat.le_of_ble_eq_true rfl, Nat.le_of_ble_eq_true rfl⟩) hR (rfl : 13 + 3 = 16) (fun z2 Sx H locs hq hR => ?_)
    obtain ⟨hSx, h⟩ := hq
    rw [hSx] at hR
    refine hp_if_eq E dX1_sell_16 (rfl : 16 + 3 = 19) (tgt := 59) (by decide) (fun hb => ?_) (fun hb => ?_)
    · have h := h.1 hb
      exact b59 _ _ _ _ h (lv_sub hl [] rfl) hR hm
    · have h := h.2 hb
      refine hp_iload_n E hl 3 rfl 4 rfl dX1_sell_19 (rfl : 19 + 1 = 20) ?_
      refine hp_fi (hp_rS E hR hl (m_X1_isHolder G _ _ _ h) q771 q772 q73 q773 nf_X1_isHolder ⟨Nat.le_of_ble_eq_true rfl, Nat.le_of_ble_eq_true rfl⟩ (rest := []) rfl (Nat.le_of_ble_eq_true rfl) dX1_sell_20 ⟨Nat.le_of_ble_eq_true rfl, Nat.le_of_ble_eq_true rfl⟩) hR (rfl : 20 + 3 = 23) (fun z3 Sx H locs hq hR => ?_)
      obtain ⟨hSx, h⟩ := hq
      rw [hSx] at hR
      refine hp_if_eq E dX1_sell_23 (rfl : 23 + 3 = 26) (tgt := 59) (by decide) (fun hb => ?_) (fun hb => ?_)
      · have h := h.1 hb
        exact b59 _ _ _ _ h (lv_sub hl [] rfl) hR hm
      · have h := h.2 hb
        refine hp_iload_n E hl 2 rfl 3 rfl dX1_sell_26 (rfl : 26 + 1 = 27) ?_
        refine hp_iload_n E hl 3 rfl 4 rfl dX1_sell_27 (rfl : 27 + 1 = 28) ?_
        refine hp_icmp_eq E dX1_sell_28 (rfl : 28 + 3 = 31) (tgt := 59) (by decide) (fun hb => ?_) (fun hb => ?_)
        · have h := h.1 hb
          exact b59 _ _ _ _ h (lv_sub hl [] rfl) hR hm
        · have h := h.2 hb
          refine hp_iload E hl 5 rfl dX1_sell_31 (rfl : 31 + 2 = 33) ?_
          refine hp_iconst E (1 : Int32) (by decide) dX1_sell_33 (rfl : 33 + 1 = 34) ?_
          refine hp_aload E hl 0 rfl dX1_sell_34 (rfl : 34 + 2 = 36) ?_
          refine hp_iload_n E hl 2 rfl 3 rfl dX1_sell_36 (rfl : 36 + 1 = 37) ?_
          refine hp_aload_n E hl 0 rfl 1 rfl dX1_sell_37 (rfl : 37 + 1 = 38) ?_
          refine hp_getI E hR in_X1 hc0 rfl 4 (Nat.le_of_ble_eq_true rfl) rfl q320 (fun _ h => h) dX1_sell_38 (rfl : 38 + 3 = 41) ?_
          obtain ⟨hc4, h⟩ := h
          (try unfold hp_virt at h)
          refine hp_fi (hp_el2 hc4 (fun hc => hp_rV E hR hl (m_X11_parts G _ _ _ _ _ (Or.inl hc) (h.1 hc)) hc (ci := 10) rfl rfl q843 q844 q845 q97 q848 nf_X11_parts ⟨Nat.le_of_ble_eq_true rfl, Nat.le_of_ble_eq_true rfl⟩ (rest := [.int (1 : Int32), .int a4]) rfl (Nat.le_of_ble_eq_true rfl) dX1_sell_41 ⟨Nat.le_of_ble_eq_true rfl, Nat.le_of_ble_eq_true rfl⟩) (fun hc => hp_rU E hR hl (m_X11_parts G _ _ _ _ _ (Or.inr hc) (h.2 hc)) hc (ci := 11) rfl q843 q844 q847 q97 q848 q846 q844 q848 nf_X11_parts ⟨Nat.le_of_ble_eq_true rfl, Nat.le_of_ble_eq_true rfl⟩ (rest := [.int (1 : Int32), .int a4]) rfl (Nat.le_of_ble_eq_true rfl) dX1_sell_41 ⟨Nat.le_of_ble_eq_true rfl, Nat.le_of_ble_eq_true rfl⟩)) hR (rfl : 41 + 3 = 44) (fun z5 Sx H locs hq hR => ?_)
          obtain ⟨hSx, h⟩ := hq
          rw [hSx] at hR
          refine hp_fi (hp_rS E hR hl (m_X1_in G _ _ _ _ _ h) q394 q395 q73 q396 nf_X1_in ⟨Nat.le_of_ble_eq_true rfl, Nat.le_of_ble_eq_true rfl⟩ (rest := []) rfl (Nat.le_of_ble_eq_true rfl) dX1_sell_44 ⟨Nat.le_of_ble_eq_true rfl, Nat.le_of_ble_eq_true rfl⟩) hR (rfl : 44 + 3 = 47) (fun z7 Sx H locs hq hR => ?_)
          obtain ⟨hSx, h⟩ := hq
          rw [hSx] at hR
          refine hp_if_eq E dX1_sell_47 (rfl : 47 + 3 = 50) (tgt := 59) (by decide) (fun hb => ?_) (fun hb => ?_)
          · have h := h.1 hb
            exact b59 _ _ _ _ h (lv_sub hl [] rfl) hR hm
          · have h := h.2 hb
            refine hp_aload_n E hl 0 rfl 1 rfl dX1_sell_50 (rfl : 50 + 1 = 51) ?_
            refine hp_getI E hR in_X1 hc0 rfl 5 (Nat.le_of_ble_eq_true rfl) rfl q321 (fun _ h => h) dX1_sell_51 (rfl : 51 + 3 = 54) ?_
            refine hp_bipush E (40 : Int32) (by decide) dX1_sell_54 (rfl : 54 + 2 = 56) ?_
            refine hp_icmp_ne E dX1_sell_56 (rfl : 56 + 3 = 59) (tgt := 61) (by decide) (fun hb => ?_) (fun hb => ?_)
            · have h := h.1 hb
              exact b59 _ _ _ _ h (lv_sub hl [] rfl) hR hm
            · have h := h.2 hb
              refine hp_aload E hl 0 rfl dX1_sell_61 (rfl : 61 + 2 = 63) ?_
              refine hp_or2 hc4 (fun hc kk => hp_getRN E hR in_X11 hc rfl 6 (Nat.le_of_ble_eq_true rfl) rfl q802 (fun _ h => h) dX1_sell_63 (rfl : 63 + 3 = 66) kk) (fun hc kk => hp_getRN E hR in_X12 hc rfl 6 (Nat.le_of_ble_eq_true rfl) rfl q802 (fun _ h => h) dX1_sell_63 (rfl : 63 + 3 = 66) kk) ?_
              refine hx_new E hR in_X13 tyX13 tyX13_ok (ci := 12) rfl hd_X13 q852 q853 q99 (Nat.le_of_ble_eq_true rfl) (Nat.le_of_ble_eq_true rfl) dX1_sell_66 (rfl : 66 + 3 = 69) (fun n11 S8 H e12 e10 hf13 hm9 hc14 hR => ?_)
              have h := h n11 S8 e12 e10 hf13
              have hm := hp_mono.tr hm hm9
              refine hp_dup E hp_vc dX1_sell_69 (rfl : 69 + 1 = 70) ?_
              refine hp_aload_n E hl 0 rfl 1 rfl dX1_sell_70 (rfl : 70 + 1 = 71) ?_
              refine hp_getI E hR in_X1 (hp_mono.c hm hc0) rfl 4 (Nat.le_of_ble_eq_true rfl) rfl q320 (fun _ h => h) dX1_sell_71 (rfl : 71 + 3 = 74) ?_
              refine hp_iload_n E hl 2 rfl 3 rfl dX1_sell_74 (rfl : 74 + 1 = 75) ?_
              refine hp_iload_n E hl 3 rfl 4 rfl dX1_sell_75 (rfl : 75 + 1 = 76) ?_
              refine hp_iload E hl 5 rfl dX1_sell_76 (rfl : 76 + 2 = 78) ?_
              refine hp_fv (hp_rI E hR hl (hp_ne hR hc14) (m_X13_init G _ _ _ _ _ _ _ hc14 h) rfl q854 q855 q99 q856 nf_X13_init ⟨Nat.le_of_ble_eq_true rfl, Nat.le_of_ble_eq_true rfl⟩ (rest := [hp_v B n11, hp_v B (st_R Si z1 6)]) rfl (Nat.le_of_ble_eq_true rfl) dX1_sell_78 ⟨Nat.le_of_ble_eq_true rfl, Nat.le_of_ble_eq_true rfl⟩) hR (rfl : 78 + 3 = 81) (fun S15 H locs hq hR => ?_)
              obtain ⟨hm16, h⟩ := hq
              have h := h hm16
              have hm := hp_mono.tr hm hm16
              obtain ⟨hc17, h⟩ := h
              refine hp_fi (hp_rV E hR hl (m_J2_add G _ _ _ _ hc17 h) hc17 (ci := 16) rfl rfl q718 q613 q614 q78 q615 nf_J2_add ⟨Nat.le_of_ble_eq_true rfl, Nat.le_of_ble_eq_true rfl⟩ (rest := []) rfl (Nat.le_of_ble_eq_true rfl) dX1_sell_81 ⟨Nat.le_of_ble_eq_true rfl, Nat.le_of_ble_eq_true rfl⟩) hR (rfl : 81 + 3 = 84) (fun z18 S19 H locs hq hR => ?_)
              obtain ⟨hm20, h⟩ := hq
              have h := h hm20
              have hm := hp_mono.tr hm hm20
              refine hp_pop E rfl dX1_sell_84 (rfl : 84 + 1 = 85) ?_
              refine hp_aload_n E hl 0 rfl 1 rfl dX1_sell_85 (rfl : 85 + 1 = 86) ?_
              refine hp_dup E hp_vc dX1_sell_86 (rfl : 86 + 1 = 87) ?_
              refine hp_getI E hR in_X1 (hp_mono.c hm hc0) rfl 5 (Nat.le_of_ble_eq_true rfl) rfl q321 (fun _ h => h) dX1_sell_87 (rfl : 87 + 3 = 90) ?_
              refine hp_iconst E (1 : Int32) (by decide) dX1_sell_90 (rfl : 90 + 1 = 91) ?_
              refine hp_iadd E dX1_sell_91 (rfl : 91 + 1 = 92) ?_
              refine hx_putI E hR in_X1 tyX1 tyX1_ok nmX1 (hp_mono.c hm hc0) rfl 5 (Nat.le_of_ble_eq_true rfl) rfl q321 (fun _ h => h) (Or.inl rfl) (Or.inl rfl) dX1_sell_92 (rfl : 92 + 3 = 95) (fun S21 H locs e23 hm22 hR => ?_)
              have h := h S21 e23
              have hm := hp_mono.tr hm hm22
              refine hp_aload_n E hl 0 rfl 1 rfl dX1_sell_95 (rfl : 95 + 1 = 96) ?_
              refine hp_iconst E (0 : Int32) (by decide) dX1_sell_96 (rfl : 96 + 1 = 97) ?_
              refine hx_putI E hR in_X1 tyX1 tyX1_ok nmX1 (hp_mono.c hm hc0) rfl 17 (Nat.le_of_ble_eq_true rfl) rfl q340 (fun _ h => h) (Or.inl rfl) (Or.inr ⟨rfl, (Or.inl rfl)⟩) dX1_sell_97 (rfl : 97 + 3 = 100) (fun S24 H locs e26 hm25 hR => ?_)
              have h := h S24 e26
              have hm := hp_mono.tr hm hm25
              refine hp_iconst E (1 : Int32) (by decide) dX1_sell_100 (rfl : 100 + 1 = 101) ?_
              exact hp_zret E hR (Or.inr rfl) ⟨hm, h⟩ (Nat.le_of_ble_eq_true rfl) (Nat.le_of_ble_eq_true rfl) dX1_sell_101
def wp_X1_isHalf (a0 : Int32) (S : hp_St) (Q : Int32 → Prop) : Prop := wp_X1_in a0 (0 : Int32) (79 : Int32) S (fun z1 => (z1 = 0 ∨ z1 = 1) ∧ Q z1)
theorem nf_X1_isHalf : hp_nf yX1_isHalf 1 = true := by decide +kernel
set_option maxHeartbeats 4000000 in
theorem m_X1_isHalf {l : Launch} {B : Nat} {D : va_G} {s0 : State} {b0 : Nat} (G : hp_G l B D s0 b0) (a0 : Int32) (Si : hp_St) (Q : Int32 → Prop) (h : wp_X1_isHalf a0 Si Q) : hp_M l B D s0 yX1_isHalf cX1_isHalf 1 (some .boolean) 3 192 0 0 [.int a0] Si (hp_Qi B D s0 (fun r S' => S' = Si ∧ Q r)) := by
  refine hp_start G (by decide +kernel) rfl rfl (lv := [(0, .int a0)]) (by simp [lg_sl, hp_vc, hp_ci, hp_cj]) (by simp [lv_args, hp_vc, hp_ci, hp_cj]) ?_
  intro p e s m args below meth c E ls hl hR
  unfold wp_X1_isHalf at h
  refine hp_iload_n E hl 0 rfl 0 rfl dX1_isHalf_0 (rfl : 0 + 1 = 1) ?_
  refine hp_iconst E (0 : Int32) (by decide) dX1_isHalf_1 (rfl : 1 + 1 = 2) ?_
  refine hp_bipush E (79 : Int32) (by decide) dX1_isHalf_2 (rfl : 2 + 2 = 4) ?_
  refine hp_fi (hp_rS E hR hl (m_X1_in G _ _ _ _ _ h) q394 q395 q73 q396 nf_X1_in ⟨Nat.le_of_ble_eq_true rfl, Nat.le_of_ble_eq_true rfl⟩ (rest := []) rfl (Nat.le_of_ble_eq_true rfl) dX1_isHalf_4 ⟨Nat.le_of_ble_eq_true rfl, Nat.le_of_ble_eq_true rfl⟩) hR (rfl : 4 + 3 = 7) (fun z1 Sx H locs hq hR => ?_)
  obtain ⟨hSx, h⟩ := hq
  rw [hSx] at hR
  obtain ⟨hz2, h⟩ := h
  exact hp_zret E hR hz2 ⟨rfl, h⟩ (Nat.le_of_ble_eq_true rfl) (Nat.le_of_ble_eq_true rfl) dX1_isHalf_7
def wb_X1_parts_36 (o : Nat) (a1 : Int32) (a2 : Int32) (a3 : Int32) (t0 : Int32) (S : hp_St) (Q : Int32 → Prop) : Prop := Q t0
def wb_X1_parts_22 (o : Nat) (a1 : Int32) (a2 : Int32) (a3 : Int32) (S : hp_St) (Q : Int32 → Prop) : Prop := wb_X1_parts_36 o a1 a2 a3 (-1 : Int32) S Q
def wp_X1_parts (o : Nat) (a1 : Int32) (a2 : Int32) (a3 : Int32) (S : hp_St) (Q : Int32 → Prop) : Prop := wp_X1_aRent o a1 S (fun z1 => (((z1 = 0) → wb_X1_parts_22 o a1 a2 a3 S Q) ∧ ((¬ (z1 = 0)) → wp_X1_isHolder a2 S (fun z2 => (((z2 = 0) → wb_X1_parts_22 o a1 a2 a3 S Q) ∧ ((¬ (z2 = 0)) → wp_X1_isHalf a3 S (fun z3 => (((z3 = 0) → wb_X1_parts_22 o a1 a2 a3 S Q) ∧ ((¬ (z3 = 0)) → wp_X1_aRent o a1 S (fun z4 => (st_C S z4 = 11 ∨ st_C S z4 = 12) ∧ hp_virt (fun Kc7 => (st_C S z4 = 11 → wp_X11_parts z4 a2 a3 S Kc7) ∧ (st_C S z4 = 12 → wp_X11_parts z4 a2 a3 S Kc7)) (fun z6 => wb_X1_parts_36 o a1 a2 a3 z6 S Q)))))))))))
theorem nf_X1_parts : hp_nf yX1_parts 3 = true := by decide +kernel
set_option maxHeartbeats 4000000 in
theorem m_X1_parts {l : Launch} {B : Nat} {D : va_G} {s0 : State} {b0 : Nat} (G : hp_G l B D s0 b0) (o : Nat) (a1 : Int32) (a2 : Int32) (a3 : Int32) (Si : hp_St) (Q : Int32 → Prop) (hc0 : st_C Si o = 1) (h : wp_X1_parts o a1 a2 a3 Si Q) : hp_M l B D s0 yX1_parts cX1_parts 4 (some .int) 6 384 0 0 [hp_v B o, .int a1, .int a2, .int a3] Si (hp_Qi B D s0 (fun r S' => S' = Si ∧ Q r)) := by
  refine hp_start G (by decide +kernel) rfl rfl (lv := [(0, hp_v B o), (1, .int a1), (2, .int a2), (3, .int a3)]) (by simp [lg_sl, hp_vc, hp_ci, hp_cj]) (by simp [lv_args, hp_vc, hp_ci, hp_cj]) ?_
  intro p e s m args below meth c E ls hl hR
  generalize hH : s.heap = H at hR ⊢
  generalize hLo : ([] : List Loc) = locs at hR ⊢
  have b36 : ∀ (t0 : Int32) (H : Heap) (locs : List Loc) (ls : Array Slot), wb_X1_parts_36 o a1 a2 a3 t0 Si Q → lv_has ls 4 [] → hp_S B D s0 Si H locs → W p l e ({ frames := 6, cells := 0, slots := 0, locals := 384 } : Room) s m args below meth c H locs 0 0 (MQ below (hp_Qi B D s0 (fun r S' => S' = Si ∧ Q r)) args s 0 0 (fun q => B < q)) (F0 m 36 ls [.int t0]) := by
    intro t0 H locs ls h hl hR
    unfold wb_X1_parts_36 at h
    exact hp_iret E hR ⟨rfl, h⟩ (Nat.le_of_ble_eq_true rfl) (Nat.le_of_ble_eq_true rfl) dX1_parts_36
  have b22 : ∀ (H : Heap) (locs : List Loc) (ls : Array Slot), wb_X1_parts_22 o a1 a2 a3 Si Q → lv_has ls 4 [] → hp_S B D s0 Si H locs → W p l e ({ frames := 6, cells := 0, slots := 0, locals := 384 } : Room) s m args below meth c H locs 0 0 (MQ below (hp_Qi B D s0 (fun r S' => S' = Si ∧ Q r)) args s 0 0 (fun q => B < q)) (F0 m 22 ls []) := by
    intro  H locs ls h hl hR
    unfold wb_X1_parts_22 at h
    refine hp_iconst E (-1 : Int32) (by decide) dX1_parts_22 (rfl : 22 + 1 = 23) ?_
    refine hp_goto E (tgt := 36) dX1_parts_23 (by decide) ?_
    exact b36 _ _ _ _ h hl hR
  unfold wp_X1_parts at h
  refine hp_aload_n E hl 0 rfl 0 rfl dX1_parts_0 (rfl : 0 + 1 = 1) ?_
  refine hp_iload_n E hl 1 rfl 1 rfl dX1_parts_1 (rfl : 1 + 1 = 2) ?_
  refine hp_fa (hp_rV E hR hl (m_X1_aRent G _ _ _ _ hc0 h) hc0 (ci := 0) rfl rfl q839 q841 qs17 q73 q842 nf_X1_aRent ⟨Nat.le_of_ble_eq_true rfl, Nat.le_of_ble_eq_true rfl⟩ (rest := []) rfl (Nat.le_of_ble_eq_true rfl) dX1_parts_2 ⟨Nat.le_of_ble_eq_true rfl, Nat.le_of_ble_eq_true rfl⟩) hR (rfl : 2 + 3 = 5) (fun z1 Sx H locs hq hR => ?_)
  obtain ⟨hSx, h⟩ := hq
  rw [hSx] at hR
  refine hp_ifnull E dX1_parts_5 (rfl : 5 + 3 = 8) (tgt := 22) (by decide) (fun hb => ?_) (fun hb => ?_)
  · have h := h.1 hb
    exact b22 _ _ _ h (lv_sub hl [] rfl) hR
  · have h := h.2 hb
    refine hp_iload_n E hl 2 rfl 2 rfl dX1_parts_8 (rfl : 8 + 1 = 9) ?_
    refine hp_fi (hp_rS E hR hl (m_X1_isHolder G _ _ _ h) q771 q772 q73 q773 nf_X1_isHolder ⟨Nat.le_of_ble_eq_true rfl, Nat.le_of_ble_eq_true rfl⟩ (rest := []) rfl (Nat.le_of_ble_eq_true rfl) dX1_parts_9 ⟨Nat.le_of_ble_eq_true rfl, Nat.le_of_ble_eq_true rfl⟩) hR (rfl : 9 + 3 = 12) (fun z2 Sx H locs hq hR => ?_)
    obtain ⟨hSx, h⟩ := hq
    rw [hSx] at hR
    refine hp_if_eq E dX1_parts_12 (rfl : 12 + 3 = 15) (tgt := 22) (by decide) (fun hb => ?_) (fun hb => ?_)
    · have h := h.1 hb
      exact b22 _ _ _ h (lv_sub hl [] rfl) hR
    · have h := h.2 hb
      refine hp_iload_n E hl 3 rfl 3 rfl dX1_parts_15 (rfl : 15 + 1 = 16) ?_
      refine hp_fi (hp_rS E hR hl (m_X1_isHalf G _ _ _ h) q879 q880 q73 q881 nf_X1_isHalf ⟨Nat.le_of_ble_eq_true rfl, Nat.le_of_ble_eq_true rfl⟩ (rest := []) rfl (Nat.le_of_ble_eq_true rfl) dX1_parts_16 ⟨Nat.le_of_ble_eq_true rfl, Nat.le_of_ble_eq_true rfl⟩) hR (rfl : 16 + 3 = 19) (fun z3 Sx H locs hq hR => ?_)
      obtain ⟨hSx, h⟩ := hq
      rw [hSx] at hR
      refine hp_if_ne E dX1_parts_19 (rfl : 19 + 3 = 22) (tgt := 26) (by decide) (fun hb => ?_) (fun hb => ?_)
      · have h := h.1 hb
        exact b22 _ _ _ h (lv_sub hl [] rfl) hR
      · have h := h.2 hb
        refine hp_aload_n E hl 0 rfl 0 rfl dX1_parts_26 (rfl : 26 + 1 = 27) ?_
        refine hp_iload_n E hl 1 rfl 1 rfl dX1_parts_27 (rfl : 27 + 1 = 28) ?_
        refine hp_fa (hp_rV E hR hl (m_X1_aRent G _ _ _ _ hc0 h) hc0 (ci := 0) rfl rfl q839 q841 qs17 q73 q842 nf_X1_aRent ⟨Nat.le_of_ble_eq_true rfl, Nat.le_of_ble_eq_true rfl⟩ (rest := []) rfl (Nat.le_of_ble_eq_true rfl) dX1_parts_28 ⟨Nat.le_of_ble_eq_true rfl, Nat.le_of_ble_eq_true rfl⟩) hR (rfl : 28 + 3 = 31) (fun z4 Sx H locs hq hR => ?_)
        obtain ⟨hSx, h⟩ := hq
        rw [hSx] at hR
        refine hp_iload_n E hl 2 rfl 2 rfl dX1_parts_31 (rfl : 31 + 1 = 32) ?_
        refine hp_iload_n E hl 3 rfl 3 rfl dX1_parts_32 (rfl : 32 + 1 = 33) ?_
        obtain ⟨hc5, h⟩ := h
        (try unfold hp_virt at h)
        refine hp_fi (hp_el2 hc5 (fun hc => hp_rV E hR hl (m_X11_parts G _ _ _ _ _ (Or.inl hc) (h.1 hc)) hc (ci := 10) rfl rfl q843 q844 q845 q97 q848 nf_X11_parts ⟨Nat.le_of_ble_eq_true rfl, Nat.le_of_ble_eq_true rfl⟩ (rest := []) rfl (Nat.le_of_ble_eq_true rfl) dX1_parts_33 ⟨Nat.le_of_ble_eq_true rfl, Nat.le_of_ble_eq_true rfl⟩) (fun hc => hp_rU E hR hl (m_X11_parts G _ _ _ _ _ (Or.inr hc) (h.2 hc)) hc (ci := 11) rfl q843 q844 q847 q97 q848 q846 q844 q848 nf_X11_parts ⟨Nat.le_of_ble_eq_true rfl, Nat.le_of_ble_eq_true rfl⟩ (rest := []) rfl (Nat.le_of_ble_eq_true rfl) dX1_parts_33 ⟨Nat.le_of_ble_eq_true rfl, Nat.le_of_ble_eq_true rfl⟩)) hR (rfl : 33 + 3 = 36) (fun z6 Sx H locs hq hR => ?_)
        obtain ⟨hSx, h⟩ := hq
        rw [hSx] at hR
        exact b36 _ _ _ _ h (lv_sub hl [] rfl) hR
def wp_X14_init (o : Nat) (a1 : Int32) (S : hp_St) (Q : hp_St → Prop) : Prop := (∀ S1, S1 = st_pI S o 0 a1 → Q S1)
theorem nf_X14_init : hp_nf yX14_init 1 = true := by decide +kernel
set_option maxHeartbeats 4000000 in
theorem m_X14_init {l : Launch} {B : Nat} {D : va_G} {s0 : State} {b0 : Nat} (G : hp_G l B D s0 b0) (o : Nat) (a1 : Int32) (Si : hp_St) (Q : hp_St → Prop) (hc0 : st_C Si o = 14 ∨ st_C Si o = 15 ∨ st_C Si o = 16) (h : wp_X14_init o a1 Si Q) : hp_M l B D s0 yX14_init cX14_init 2 none 2 128 0 0 [hp_v B o, .int a1] Si (hp_Qv B D s0 (fun S' => hp_mono Si S' ∧ Q S')) := by
  refine hp_start G (by decide +kernel) rfl rfl (lv := [(0, hp_v B o), (1, .int a1)]) (by simp [lg_sl, hp_vc, hp_ci, hp_cj]) (by simp [lv_args, hp_vc, hp_ci, hp_cj]) ?_
  intro p e s m args below meth c E ls hl hR
  have hm : hp_mono Si Si := hp_mono.rf
  unfold wp_X14_init at h
  refine hp_aload_n E hl 0 rfl 0 rfl dX14_init_0 (rfl : 0 + 1 = 1) ?_
  refine hp_obj E hl (hc0.elim (fun q => hp_ne hR q) (fun q => q.elim (fun q => hp_ne hR q) (fun q => hp_ne hR q))) q897 q115 q116 dX14_init_1 (rfl : 1 + 3 = 4) (Nat.le_of_ble_eq_true rfl) (Nat.le_of_ble_eq_true rfl) (Nat.le_of_ble_eq_true rfl) ?_
  refine hp_aload_n E hl 0 rfl 0 rfl dX14_init_4 (rfl : 4 + 1 = 5) ?_
  refine hp_iload_n E hl 1 rfl 1 rfl dX14_init_5 (rfl : 5 + 1 = 6) ?_
  refine hp_or3 hc0 (fun hc kk => hx_putI E hR in_N16 tyN16 tyN16_ok nmN16 hc rfl 0 (Nat.le_of_ble_eq_true rfl) rfl q908 (fun _ h => h) (Or.inr ⟨E.nmm, rfl⟩) (Or.inl rfl) dX14_init_6 (rfl : 6 + 3 = 9) kk) (fun hc kk => hx_putI E hR in_N17 tyN16 tyN16_ok nmN16 hc rfl 0 (Nat.le_of_ble_eq_true rfl) rfl q908 (fun _ h => h) (Or.inr ⟨E.nmm, rfl⟩) (Or.inl rfl) dX14_init_6 (rfl : 6 + 3 = 9) kk) (fun hc kk => hx_putI E hR in_X18 tyX18 tyX18_ok nmX18 hc rfl 0 (Nat.le_of_ble_eq_true rfl) rfl q908 (fun _ h => h) (Or.inr ⟨E.nmm, rfl⟩) (Or.inl rfl) dX14_init_6 (rfl : 6 + 3 = 9) kk) (fun S1 H locs e3 hm2 hR => ?_)
  have h := h S1 e3
  have hm := hp_mono.tr hm hm2
  exact hp_vret E hR ⟨hm, h⟩ (Nat.le_of_ble_eq_true rfl) (Nat.le_of_ble_eq_true rfl) dX14_init_9
def wp_X15_init (o : Nat) (a1 : Int32) (a2 : Nat) (a3 : Int32) (S : hp_St) (Q : hp_St → Prop) : Prop := wp_X14_init o a1 S (fun S1 => hp_mono S S1 → (∀ S3, S3 = st_pR S1 o 1 a2 → (∀ S6, S6 = st_pI S3 o 2 a3 → Q S6)))
theorem nf_X15_init : hp_nf yX15_init 3 = true := by decide +kernel
set_option maxHeartbeats 4000000 in
theorem m_X15_init {l : Launch} {B : Nat} {D : va_G} {s0 : State} {b0 : Nat} (G : hp_G l B D s0 b0) (o : Nat) (a1 : Int32) (a2 : Nat) (a3 : Int32) (Si : hp_St) (Q : hp_St → Prop) (hc0 : st_C Si o = 14 ∨ st_C Si o = 15) (h : wp_X15_init o a1 a2 a3 Si Q) : hp_M l B D s0 yX15_init cX15_init 4 none 3 192 0 0 [hp_v B o, .int a1, hp_v B a2, .int a3] Si (hp_Qv B D s0 (fun S' => hp_mono Si S' ∧ Q S')) := by
  refine hp_start G (by decide +kernel) rfl rfl (lv := [(0, hp_v B o), (1, .int a1), (2, hp_v B a2), (3, .int a3)]) (by simp [lg_sl, hp_vc, hp_ci, hp_cj]) (by simp [lv_args, hp_vc, hp_ci, hp_cj]) ?_
  intro p e s m args below meth c E ls hl hR
  have hm : hp_mono Si Si := hp_mono.rf
  unfold wp_X15_init at h
  refine hp_aload_n E hl 0 rfl 0 rfl dX15_init_0 (rfl : 0 + 1 = 1) ?_
  refine hp_iload_n E hl 1 rfl 1 rfl dX15_init_1 (rfl : 1 + 1 = 2) ?_
  refine hp_fv (hp_rI E hR hl (hc0.elim (fun q => hp_ne hR q) (fun q => hp_ne hR q)) (m_X14_init G _ _ _ _ (hc0.elim Or.inl (fun q => Or.inr (Or.inl q))) h) rfl q894 q895 q100 q896 nf_X14_init ⟨Nat.le_of_ble_eq_true rfl, Nat.le_of_ble_eq_true rfl⟩ (rest := []) rfl (Nat.le_of_ble_eq_true rfl) dX15_init_2 ⟨Nat.le_of_ble_eq_true rfl, Nat.le_of_ble_eq_true rfl⟩) hR (rfl : 2 + 3 = 5) (fun S1 H locs hq hR => ?_)
  obtain ⟨hm2, h⟩ := hq
  have h := h hm2
  have hm := hp_mono.tr hm hm2
  refine hp_aload_n E hl 0 rfl 0 rfl dX15_init_5 (rfl : 5 + 1 = 6) ?_
  refine hp_aload_n E hl 2 rfl 2 rfl dX15_init_6 (rfl : 6 + 1 = 7) ?_
  refine hp_or2 (hp_mono.c2 hm hc0) (fun hc kk => hx_putR E hR in_N16 tyN16 tyN16_ok nmN16 hc rfl 1 (Nat.le_of_ble_eq_true rfl) rfl q898 (fun _ h => h) (Or.inr ⟨E.nmm, rfl⟩) rfl dX15_init_7 (rfl : 7 + 3 = 10) kk) (fun hc kk => hx_putR E hR in_N17 tyN16 tyN16_ok nmN16 hc rfl 1 (Nat.le_of_ble_eq_true rfl) rfl q898 (fun _ h => h) (Or.inr ⟨E.nmm, rfl⟩) rfl dX15_init_7 (rfl : 7 + 3 = 10) kk) (fun S3 H locs e5 hm4 hR => ?_)
  have h := h S3 e5
  have hm := hp_mono.tr hm hm4
  refine hp_aload_n E hl 0 rfl 0 rfl dX15_init_10 (rfl : 10 + 1 = 11) ?_
  refine hp_iload_n E hl 3 rfl 3 rfl dX15_init_11 (rfl : 11 + 1 = 12) ?_
  refine hp_or2 (hp_mono.c2 hm hc0) (fun hc kk => hx_putI E hR in_N16 tyN16 tyN16_ok nmN16 hc rfl 2 (Nat.le_of_ble_eq_true rfl) rfl q903 (fun _ h => h) (Or.inr ⟨E.nmm, rfl⟩) (Or.inl rfl) dX15_init_12 (rfl : 12 + 3 = 15) kk) (fun hc kk => hx_putI E hR in_N17 tyN16 tyN16_ok nmN16 hc rfl 2 (Nat.le_of_ble_eq_true rfl) rfl q903 (fun _ h => h) (Or.inr ⟨E.nmm, rfl⟩) (Or.inl rfl) dX15_init_12 (rfl : 12 + 3 = 15) kk) (fun S6 H locs e8 hm7 hR => ?_)
  have h := h S6 e8
  have hm := hp_mono.tr hm hm7
  exact hp_vret E hR ⟨hm, h⟩ (Nat.le_of_ble_eq_true rfl) (Nat.le_of_ble_eq_true rfl) dX15_init_15
def wp_X16_init (o : Nat) (a1 : Int32) (a2 : Nat) (a3 : Int32) (S : hp_St) (Q : hp_St → Prop) : Prop := wp_X15_init o a1 a2 a3 S (fun S1 => hp_mono S S1 → Q S1)
theorem nf_X16_init : hp_nf yX16_init 3 = true := by decide +kernel
set_option maxHeartbeats 4000000 in
theorem m_X16_init {l : Launch} {B : Nat} {D : va_G} {s0 : State} {b0 : Nat} (G : hp_G l B D s0 b0) (o : Nat) (a1 : Int32) (a2 : Nat) (a3 : Int32) (Si : hp_St) (Q : hp_St → Prop) (hc0 : st_C Si o = 14) (h : wp_X16_init o a1 a2 a3 Si Q) : hp_M l B D s0 yX16_init cX16_init 4 none 4 256 0 0 [hp_v B o, .int a1, hp_v B a2, .int a3] Si (hp_Qv B D s0 (fun S' => hp_mono Si S' ∧ Q S')) := by
  refine hp_start G (by decide +kernel) rfl rfl (lv := [(0, hp_v B o), (1, .int a1), (2, hp_v B a2), (3, .int a3)]) (by simp [lg_sl, hp_vc, hp_ci, hp_cj]) (by simp [lv_args, hp_vc, hp_ci, hp_cj]) ?_
  intro p e s m args below meth c E ls hl hR
  have hm : hp_mono Si Si := hp_mono.rf
  unfold wp_X16_init at h
  refine hp_aload_n E hl 0 rfl 0 rfl dX16_init_0 (rfl : 0 + 1 = 1) ?_
  refine hp_iload_n E hl 1 rfl 1 rfl dX16_init_1 (rfl : 1 + 1 = 2) ?_
  refine hp_aload_n E hl 2 rfl 2 rfl dX16_init_2 (rfl : 2 + 1 = 3) ?_
  refine hp_iload_n E hl 3 rfl 3 rfl dX16_init_3 (rfl : 3 + 1 = 4) ?_
  refine hp_fv (hp_rI E hR hl (hp_ne hR hc0) (m_X15_init G _ _ _ _ _ _ (Or.inl hc0) h) rfl q891 q892 q101 q893 nf_X15_init ⟨Nat.le_of_ble_eq_true rfl, Nat.le_of_ble_eq_true rfl⟩ (rest := []) rfl (Nat.le_of_ble_eq_true rfl) dX16_init_4 ⟨Nat.le_of_ble_eq_true rfl, Nat.le_of_ble_eq_true rfl⟩) hR (rfl : 4 + 3 = 7) (fun S1 H locs hq hR => ?_)
  obtain ⟨hm2, h⟩ := hq
  have h := h hm2
  have hm := hp_mono.tr hm hm2
  exact hp_vret E hR ⟨hm, h⟩ (Nat.le_of_ble_eq_true rfl) (Nat.le_of_ble_eq_true rfl) dX16_init_7
def wp_X17_init (o : Nat) (a1 : Int32) (a2 : Nat) (a3 : Int32) (S : hp_St) (Q : hp_St → Prop) : Prop := wp_X15_init o a1 a2 a3 S (fun S1 => hp_mono S S1 → Q S1)
theorem nf_X17_init : hp_nf yX17_init 3 = true := by decide +kernel
set_option maxHeartbeats 4000000 in
theorem m_X17_init {l : Launch} {B : Nat} {D : va_G} {s0 : State} {b0 : Nat} (G : hp_G l B D s0 b0) (o : Nat) (a1 : Int32) (a2 : Nat) (a3 : Int32) (Si : hp_St) (Q : hp_St → Prop) (hc0 : st_C Si o = 15) (h : wp_X17_init o a1 a2 a3 Si Q) : hp_M l B D s0 yX17_init cX17_init 4 none 4 256 0 0 [hp_v B o, .int a1, hp_v B a2, .int a3] Si (hp_Qv B D s0 (fun S' => hp_mono Si S' ∧ Q S')) := by
  refine hp_start G (by decide +kernel) rfl rfl (lv := [(0, hp_v B o), (1, .int a1), (2, hp_v B a2), (3, .int a3)]) (by simp [lg_sl, hp_vc, hp_ci, hp_cj]) (by simp [lv_args, hp_vc, hp_ci, hp_cj]) ?_
  intro p e s m args below meth c E ls hl hR
  have hm : hp_mono Si Si := hp_mono.rf
  unfold wp_X17_init at h
  refine hp_aload_n E hl 0 rfl 0 rfl dX17_init_0 (rfl : 0 + 1 = 1) ?_
  refine hp_iload_n E hl 1 rfl 1 rfl dX17_init_1 (rfl : 1 + 1 = 2) ?_
  refine hp_aload_n E hl 2 rfl 2 rfl dX17_init_2 (rfl : 2 + 1 = 3) ?_
  refine hp_iload_n E hl 3 rfl 3 rfl dX17_init_3 (rfl : 3 + 1 = 4) ?_
  refine hp_fv (hp_rI E hR hl (hp_ne hR hc0) (m_X15_init G _ _ _ _ _ _ (Or.inr hc0) h) rfl q922 q892 q101 q893 nf_X15_init ⟨Nat.le_of_ble_eq_true rfl, Nat.le_of_ble_eq_true rfl⟩ (rest := []) rfl (Nat.le_of_ble_eq_true rfl) dX17_init_4 ⟨Nat.le_of_ble_eq_true rfl, Nat.le_of_ble_eq_true rfl⟩) hR (rfl : 4 + 3 = 7) (fun S1 H locs hq hR => ?_)
  obtain ⟨hm2, h⟩ := hq
  have h := h hm2
  have hm := hp_mono.tr hm hm2
  exact hp_vret E hR ⟨hm, h⟩ (Nat.le_of_ble_eq_true rfl) (Nat.le_of_ble_eq_true rfl) dX17_init_7
def wb_X1_note_36 (o : Nat) (a1 : Int32) (a2 : Int32) (a3 : Int32) (S : hp_St) (Q : Int32 → hp_St → Prop) : Prop := Q (-1 : Int32) S
def wb_X1_note_77 (o : Nat) (a1 : Int32) (a2 : Int32) (a3 : Int32) (t0 : Nat) (t1 : Nat) (S : hp_St) (Q : Int32 → hp_St → Prop) : Prop := (st_C S t0 = 17) ∧ wp_J2_add t0 t1 S (fun z7702 S7703 => hp_mono S S7703 → (∀ S7705, S7705 = st_pI S7703 o 17 (0 : Int32) → (st_C S7705 (st_R S7705 o 10) = 17) ∧ wp_J2_size (st_R S7705 o 10) S7705 (fun z7709 => Q (z7709 - (1 : Int32)) S7705)))
def wp_X1_note (o : Nat) (a1 : Int32) (a2 : Int32) (a3 : Int32) (S : hp_St) (Q : Int32 → hp_St → Prop) : Prop := wp_X1_aLife o a1 S (fun z1 => (((z1 = 0) → wb_X1_note_36 o a1 a2 a3 S Q) ∧ ((¬ (z1 = 0)) → wp_X1_in a2 (0 : Int32) (st_I S o 4) S (fun z2 => (((z2 = 0) → wb_X1_note_36 o a1 a2 a3 S Q) ∧ ((¬ (z2 = 0)) → (st_C S (st_R S o 10) = 17) ∧ wp_J2_size (st_R S o 10) S (fun z4 => (((z4 = (60 : Int32)) → wb_X1_note_36 o a1 a2 a3 S Q) ∧ ((¬ (z4 = (60 : Int32))) → (((a3 = 0) → (∀ n8 S5, n8 = st_Z S → S5 = st_nA S 15 0 → hp_fr S n8 → wp_X17_init n8 (st_I S5 o 4) z1 a2 S5 (fun S12 => hp_mono S5 S12 → wb_X1_note_77 o a1 a2 a3 (st_R S o 10) n8 S12 Q))) ∧ ((¬ (a3 = 0)) → (∀ n17 S14, n17 = st_Z S → S14 = st_nA S 14 0 → hp_fr S n17 → wp_X16_init n17 (st_I S14 o 4) z1 a2 S14 (fun S21 => hp_mono S14 S21 → wb_X1_note_77 o a1 a2 a3 (st_R S o 10) n17 S21 Q)))))))))))))
theorem nf_X1_note : hp_nf yX1_note 3 = true := by decide +kernel
set_option maxHeartbeats 4000000 in
theorem m_X1_note {l : Launch} {B : Nat} {D : va_G} {s0 : State} {b0 : Nat} (G : hp_G l B D s0 b0) (o : Nat) (a1 : Int32) (a2 : Int32) (a3 : Int32) (Si : hp_St) (Q : Int32 → hp_St → Prop) (hc0 : st_C Si o = 1) (h : wp_X1_note o a1 a2 a3 Si Q) : hp_M l B D s0 yX1_note cX1_note 5 (some .int) 9 576 2 67 [hp_v B o, .int a1, .int a2, .int a3] Si (hp_Qi B D s0 (fun r S' => hp_mono Si S' ∧ Q r S')) := by
  refine hp_start G (by decide +kernel) rfl rfl (lv := [(0, hp_v B o), (1, .int a1), (2, .int a2), (3, .int a3)]) (by simp [lg_sl, hp_vc, hp_ci, hp_cj]) (by simp [lv_args, hp_vc, hp_ci, hp_cj]) ?_
  intro p e s m args below meth c E ls hl hR
  have hm : hp_mono Si Si := hp_mono.rf
  generalize hH : s.heap = H at hR ⊢
  generalize hLo : ([] : List Loc) = locs at hR ⊢
  have b36 : ∀ (S : hp_St) (H : Heap) (locs : List Loc) (ls : Array Slot), wb_X1_note_36 o a1 a2 a3 S Q → lv_has ls 5 [] → hp_S B D s0 S H locs → hp_mono Si S → W p l e ({ frames := 9, cells := 2, slots := 67, locals := 576 } : Room) s m args below meth c H locs 0 0 (MQ below (hp_Qi B D s0 (fun r S' => hp_mono Si S' ∧ Q r S')) args s 2 67 (fun q => B < q)) (F0 m 36 ls []) := by
    intro S H locs ls h hl hR hm
    unfold wb_X1_note_36 at h
    refine hp_iconst E (-1 : Int32) (by decide) dX1_note_36 (rfl : 36 + 1 = 37) ?_
    exact hp_iret E hR ⟨hm, h⟩ (Nat.le_of_ble_eq_true rfl) (Nat.le_of_ble_eq_true rfl) dX1_note_37
  have b77 : ∀ (t0 : Nat) (t1 : Nat) (S : hp_St) (H : Heap) (locs : List Loc) (ls : Array Slot), wb_X1_note_77 o a1 a2 a3 t0 t1 S Q → lv_has ls 5 [(0, hp_v B o)] → hp_S B D s0 S H locs → hp_mono Si S → W p l e ({ frames := 9, cells := 2, slots := 67, locals := 576 } : Room) s m args below meth c H locs 1 3 (MQ below (hp_Qi B D s0 (fun r S' => hp_mono Si S' ∧ Q r S')) args s 2 67 (fun q => B < q)) (F0 m 77 ls [hp_v B t1, hp_v B t0]) := by
    intro t0 t1 S H locs ls h hl hR hm
    unfold wb_X1_note_77 at h
    obtain ⟨hc7701, h⟩ := h
    refine hp_fi (hp_rV E hR hl (m_J2_add G _ _ _ _ hc7701 h) hc7701 (ci := 16) rfl rfl q718 q613 q614 q78 q615 nf_J2_add ⟨Nat.le_of_ble_eq_true rfl, Nat.le_of_ble_eq_true rfl⟩ (rest := []) rfl (Nat.le_of_ble_eq_true rfl) dX1_note_77 ⟨Nat.le_of_ble_eq_true rfl, Nat.le_of_ble_eq_true rfl⟩) hR (rfl : 77 + 3 = 80) (fun z7702 S7703 H locs hq hR => ?_)
    obtain ⟨hm7704, h⟩ := hq
    have h := h hm7704
    have hm := hp_mono.tr hm hm7704
    refine hp_pop E rfl dX1_note_80 (rfl : 80 + 1 = 81) ?_
    refine hp_aload_n E hl 0 rfl 0 rfl dX1_note_81 (rfl : 81 + 1 = 82) ?_
    refine hp_iconst E (0 : Int32) (by decide) dX1_note_82 (rfl : 82 + 1 = 83) ?_
    refine hx_putI E hR in_X1 tyX1 tyX1_ok nmX1 (hp_mono.c hm hc0) rfl 17 (Nat.le_of_ble_eq_true rfl) rfl q340 (fun _ h => h) (Or.inl rfl) (Or.inr ⟨rfl, (Or.inl rfl)⟩) dX1_note_83 (rfl : 83 + 3 = 86) (fun S7705 H locs e7707 hm7706 hR => ?_)
    have h := h S7705 e7707
    have hm := hp_mono.tr hm hm7706
    refine hp_aload_n E hl 0 rfl 0 rfl dX1_note_86 (rfl : 86 + 1 = 87) ?_
    refine hp_getR E hR in_X1 (hp_mono.c hm hc0) rfl 10 (Nat.le_of_ble_eq_true rfl) rfl q331 (fun _ h => h) dX1_note_87 (rfl : 87 + 3 = 90) ?_
    obtain ⟨hc7708, h⟩ := h
    refine hp_fi (hp_rV E hR hl (m_J2_size G _ _ _ hc7708 h) hc7708 (ci := 16) rfl rfl q691 q545 q546 q78 q547 nf_J2_size ⟨Nat.le_of_ble_eq_true rfl, Nat.le_of_ble_eq_true rfl⟩ (rest := []) rfl (Nat.le_of_ble_eq_true rfl) dX1_note_90 ⟨Nat.le_of_ble_eq_true rfl, Nat.le_of_ble_eq_true rfl⟩) hR (rfl : 90 + 3 = 93) (fun z7709 Sx H locs hq hR => ?_)
    obtain ⟨hSx, h⟩ := hq
    rw [hSx] at hR
    refine hp_iconst E (1 : Int32) (by decide) dX1_note_93 (rfl : 93 + 1 = 94) ?_
    refine hp_isub E dX1_note_94 (rfl : 94 + 1 = 95) ?_
    exact hp_iret E hR ⟨hm, h⟩ (Nat.le_of_ble_eq_true rfl) (Nat.le_of_ble_eq_true rfl) dX1_note_95
  unfold wp_X1_note at h
  refine hp_aload_n E hl 0 rfl 0 rfl dX1_note_0 (rfl : 0 + 1 = 1) ?_
  refine hp_iload_n E hl 1 rfl 1 rfl dX1_note_1 (rfl : 1 + 1 = 2) ?_
  refine hp_fa (hp_rV E hR hl (m_X1_aLife G _ _ _ _ hc0 h) hc0 (ci := 0) rfl rfl q723 q725 qs16 q73 q726 nf_X1_aLife ⟨Nat.le_of_ble_eq_true rfl, Nat.le_of_ble_eq_true rfl⟩ (rest := []) rfl (Nat.le_of_ble_eq_true rfl) dX1_note_2 ⟨Nat.le_of_ble_eq_true rfl, Nat.le_of_ble_eq_true rfl⟩) hR (rfl : 2 + 3 = 5) (fun z1 Sx H locs hq hR => ?_)
  obtain ⟨hSx, h⟩ := hq
  rw [hSx] at hR
  refine hp_astore E hl 4 (lv' := [(0, hp_v B o), (1, .int a1), (2, .int a2), (3, .int a3)]) dX1_note_5 (rfl : 5 + 2 = 7) (by decide) rfl (fun ls hl => ?_)
  refine hp_aload E hl 0 rfl dX1_note_7 (rfl : 7 + 2 = 9) ?_
  refine hp_ifnull E dX1_note_9 (rfl : 9 + 3 = 12) (tgt := 36) (by decide) (fun hb => ?_) (fun hb => ?_)
  · have h := h.1 hb
    exact b36 _ _ _ _ h (lv_sub hl [] rfl) hR hm
  · have h := h.2 hb
    refine hp_iload_n E hl 2 rfl 3 rfl dX1_note_12 (rfl : 12 + 1 = 13) ?_
    refine hp_iconst E (0 : Int32) (by decide) dX1_note_13 (rfl : 13 + 1 = 14) ?_
    refine hp_aload_n E hl 0 rfl 1 rfl dX1_note_14 (rfl : 14 + 1 = 15) ?_
    refine hp_getI E hR in_X1 hc0 rfl 4 (Nat.le_of_ble_eq_true rfl) rfl q320 (fun _ h => h) dX1_note_15 (rfl : 15 + 3 = 18) ?_
    refine hp_fi (hp_rS E hR hl (m_X1_in G _ _ _ _ _ h) q394 q395 q73 q396 nf_X1_in ⟨Nat.le_of_ble_eq_true rfl, Nat.le_of_ble_eq_true rfl⟩ (rest := []) rfl (Nat.le_of_ble_eq_true rfl) dX1_note_18 ⟨Nat.le_of_ble_eq_true rfl, Nat.le_of_ble_eq_true rfl⟩) hR (rfl : 18 + 3 = 21) (fun z2 Sx H locs hq hR => ?_)
    obtain ⟨hSx, h⟩ := hq
    rw [hSx] at hR
    refine hp_if_eq E dX1_note_21 (rfl : 21 + 3 = 24) (tgt := 36) (by decide) (fun hb => ?_) (fun hb => ?_)
    · have h := h.1 hb
      exact b36 _ _ _ _ h (lv_sub hl [] rfl) hR hm
    · have h := h.2 hb
      refine hp_aload_n E hl 0 rfl 1 rfl dX1_note_24 (rfl : 24 + 1 = 25) ?_
      refine hp_getR E hR in_X1 hc0 rfl 10 (Nat.le_of_ble_eq_true rfl) rfl q331 (fun _ h => h) dX1_note_25 (rfl : 25 + 3 = 28) ?_
      obtain ⟨hc3, h⟩ := h
      refine hp_fi (hp_rV E hR hl (m_J2_size G _ _ _ hc3 h) hc3 (ci := 16) rfl rfl q691 q545 q546 q78 q547 nf_J2_size ⟨Nat.le_of_ble_eq_true rfl, Nat.le_of_ble_eq_true rfl⟩ (rest := []) rfl (Nat.le_of_ble_eq_true rfl) dX1_note_28 ⟨Nat.le_of_ble_eq_true rfl, Nat.le_of_ble_eq_true rfl⟩) hR (rfl : 28 + 3 = 31) (fun z4 Sx H locs hq hR => ?_)
      obtain ⟨hSx, h⟩ := hq
      rw [hSx] at hR
      refine hp_bipush E (60 : Int32) (by decide) dX1_note_31 (rfl : 31 + 2 = 33) ?_
      refine hp_icmp_ne E dX1_note_33 (rfl : 33 + 3 = 36) (tgt := 38) (by decide) (fun hb => ?_) (fun hb => ?_)
      · have h := h.1 hb
        exact b36 _ _ _ _ h (lv_sub hl [] rfl) hR hm
      · have h := h.2 hb
        refine hp_aload_n E hl 0 rfl 1 rfl dX1_note_38 (rfl : 38 + 1 = 39) ?_
        refine hp_getR E hR in_X1 hc0 rfl 10 (Nat.le_of_ble_eq_true rfl) rfl q331 (fun _ h => h) dX1_note_39 (rfl : 39 + 3 = 42) ?_
        refine hp_iload_n E hl 3 rfl 4 rfl dX1_note_42 (rfl : 42 + 1 = 43) ?_
        refine hp_if_eq E dX1_note_43 (rfl : 43 + 3 = 46) (tgt := 63) (by decide) (fun hb => ?_) (fun hb => ?_)
        · have h := h.1 hb
          refine hx_new E hR in_N17 tyN16 tyN16_ok (ci := 14) rfl hd_X17 q917 q918 q103 (Nat.le_of_ble_eq_true rfl) (Nat.le_of_ble_eq_true rfl) dX1_note_63 (rfl : 63 + 3 = 66) (fun n8 S5 H e9 e7 hf10 hm6 hc11 hR => ?_)
          have h := h n8 S5 e9 e7 hf10
          have hm := hp_mono.tr hm hm6
          refine hp_dup E hp_vc dX1_note_66 (rfl : 66 + 1 = 67) ?_
          refine hp_aload_n E hl 0 rfl 1 rfl dX1_note_67 (rfl : 67 + 1 = 68) ?_
          refine hp_getI E hR in_X1 (hp_mono.c hm hc0) rfl 4 (Nat.le_of_ble_eq_true rfl) rfl q320 (fun _ h => h) dX1_note_68 (rfl : 68 + 3 = 71) ?_
          refine hp_aload E hl 0 rfl dX1_note_71 (rfl : 71 + 2 = 73) ?_
          refine hp_iload_n E hl 2 rfl 3 rfl dX1_note_73 (rfl : 73 + 1 = 74) ?_
          refine hp_fv (hp_rI E hR hl (hp_ne hR hc11) (m_X17_init G _ _ _ _ _ _ hc11 h) rfl q919 q920 q103 q921 nf_X17_init ⟨Nat.le_of_ble_eq_true rfl, Nat.le_of_ble_eq_true rfl⟩ (rest := [hp_v B n8, hp_v B (st_R Si o 10)]) rfl (Nat.le_of_ble_eq_true rfl) dX1_note_74 ⟨Nat.le_of_ble_eq_true rfl, Nat.le_of_ble_eq_true rfl⟩) hR (rfl : 74 + 3 = 77) (fun S12 H locs hq hR => ?_)
          obtain ⟨hm13, h⟩ := hq
          have h := h hm13
          have hm := hp_mono.tr hm hm13
          exact b77 _ _ _ _ _ _ h (lv_sub hl [1] rfl) hR hm
        · have h := h.2 hb
          refine hx_new E hR in_N16 tyN16 tyN16_ok (ci := 13) rfl hd_X16 q886 q887 q102 (Nat.le_of_ble_eq_true rfl) (Nat.le_of_ble_eq_true rfl) dX1_note_46 (rfl : 46 + 3 = 49) (fun n17 S14 H e18 e16 hf19 hm15 hc20 hR => ?_)
          have h := h n17 S14 e18 e16 hf19
          have hm := hp_mono.tr hm hm15
          refine hp_dup E hp_vc dX1_note_49 (rfl : 49 + 1 = 50) ?_
          refine hp_aload_n E hl 0 rfl 1 rfl dX1_note_50 (rfl : 50 + 1 = 51) ?_
          refine hp_getI E hR in_X1 (hp_mono.c hm hc0) rfl 4 (Nat.le_of_ble_eq_true rfl) rfl q320 (fun _ h => h) dX1_note_51 (rfl : 51 + 3 = 54) ?_
          refine hp_aload E hl 0 rfl dX1_note_54 (rfl : 54 + 2 = 56) ?_
          refine hp_iload_n E hl 2 rfl 3 rfl dX1_note_56 (rfl : 56 + 1 = 57) ?_
          refine hp_fv (hp_rI E hR hl (hp_ne hR hc20) (m_X16_init G _ _ _ _ _ _ hc20 h) rfl q888 q889 q102 q890 nf_X16_init ⟨Nat.le_of_ble_eq_true rfl, Nat.le_of_ble_eq_true rfl⟩ (rest := [hp_v B n17, hp_v B (st_R Si o 10)]) rfl (Nat.le_of_ble_eq_true rfl) dX1_note_57 ⟨Nat.le_of_ble_eq_true rfl, Nat.le_of_ble_eq_true rfl⟩) hR (rfl : 57 + 3 = 60) (fun S21 H locs hq hR => ?_)
          obtain ⟨hm22, h⟩ := hq
          have h := h hm22
          have hm := hp_mono.tr hm hm22
          refine hp_goto E (tgt := 77) dX1_note_60 (by decide) ?_
          exact b77 _ _ _ _ _ _ h (lv_sub hl [1] rfl) hR hm
def wp_X18_init (o : Nat) (a1 : Int32) (a2 : Int32) (S : hp_St) (Q : hp_St → Prop) : Prop := wp_X14_init o a1 S (fun S1 => hp_mono S S1 → (∀ S3, S3 = st_pI S1 o 1 a2 → Q S3))
theorem nf_X18_init : hp_nf yX18_init 2 = true := by decide +kernel
set_option maxHeartbeats 4000000 in
theorem m_X18_init {l : Launch} {B : Nat} {D : va_G} {s0 : State} {b0 : Nat} (G : hp_G l B D s0 b0) (o : Nat) (a1 : Int32) (a2 : Int32) (Si : hp_St) (Q : hp_St → Prop) (hc0 : st_C Si o = 16) (h : wp_X18_init o a1 a2 Si Q) : hp_M l B D s0 yX18_init cX18_init 3 none 3 192 0 0 [hp_v B o, .int a1, .int a2] Si (hp_Qv B D s0 (fun S' => hp_mono Si S' ∧ Q S')) := by
  refine hp_start G (by decide +kernel) rfl rfl (lv := [(0, hp_v B o), (1, .int a1), (2, .int a2)]) (by simp [lg_sl, hp_vc, hp_ci, hp_cj]) (by simp [lv_args, hp_vc, hp_ci, hp_cj]) ?_
  intro p e s m args below meth c E ls hl hR
  have hm : hp_mono Si Si := hp_mono.rf
  unfold wp_X18_init at h
  refine hp_aload_n E hl 0 rfl 0 rfl dX18_init_0 (rfl : 0 + 1 = 1) ?_
  refine hp_iload_n E hl 1 rfl 1 rfl dX18_init_1 (rfl : 1 + 1 = 2) ?_
  refine hp_fv (hp_rI E hR hl (hp_ne hR hc0) (m_X14_init G _ _ _ _ (Or.inr (Or.inr hc0)) h) rfl q936 q895 q100 q896 nf_X14_init ⟨Nat.le_of_ble_eq_true rfl, Nat.le_of_ble_eq_true rfl⟩ (rest := []) rfl (Nat.le_of_ble_eq_true rfl) dX18_init_2 ⟨Nat.le_of_ble_eq_true rfl, Nat.le_of_ble_eq_true rfl⟩) hR (rfl : 2 + 3 = 5) (fun S1 H locs hq hR => ?_)
  obtain ⟨hm2, h⟩ := hq
  have h := h hm2
  have hm := hp_mono.tr hm hm2
  refine hp_aload_n E hl 0 rfl 0 rfl dX18_init_5 (rfl : 5 + 1 = 6) ?_
  refine hp_iload_n E hl 2 rfl 2 rfl dX18_init_6 (rfl : 6 + 1 = 7) ?_
  refine hx_putI E hR in_X18 tyX18 tyX18_ok nmX18 (hp_mono.c hm hc0) rfl 1 (Nat.le_of_ble_eq_true rfl) rfl q937 (fun _ h => h) (Or.inr ⟨E.nmm, rfl⟩) (Or.inl rfl) dX18_init_7 (rfl : 7 + 3 = 10) (fun S3 H locs e5 hm4 hR => ?_)
  have h := h S3 e5
  have hm := hp_mono.tr hm hm4
  exact hp_vret E hR ⟨hm, h⟩ (Nat.le_of_ble_eq_true rfl) (Nat.le_of_ble_eq_true rfl) dX18_init_10
def wb_X1_strike_29 (o : Nat) (a1 : Int32) (S : hp_St) (Q : Int32 → hp_St → Prop) : Prop := Q (-1 : Int32) S
def wp_X1_strike (o : Nat) (a1 : Int32) (S : hp_St) (Q : Int32 → hp_St → Prop) : Prop := (st_C S (st_R S o 10) = 17) ∧ wp_J2_size (st_R S o 10) S (fun z2 => wp_X1_in a1 (0 : Int32) (z2 - (1 : Int32)) S (fun z3 => (((z3 = 0) → wb_X1_strike_29 o a1 S Q) ∧ ((¬ (z3 = 0)) → wp_J2_size (st_R S o 10) S (fun z4 => (((z4 = (60 : Int32)) → wb_X1_strike_29 o a1 S Q) ∧ ((¬ (z4 = (60 : Int32))) → (∀ n8 S5, n8 = st_Z S → S5 = st_nA S 16 0 → hp_fr S n8 → wp_X18_init n8 (st_I S5 o 4) a1 S5 (fun S12 => hp_mono S5 S12 → wp_J2_add (st_R S o 10) n8 S12 (fun z14 S15 => hp_mono S12 S15 → (∀ S17, S17 = st_pI S15 o 17 (0 : Int32) → (st_C S17 (st_R S17 o 10) = 17) ∧ wp_J2_size (st_R S17 o 10) S17 (fun z21 => Q (z21 - (1 : Int32)) S17))))))))))))
theorem nf_X1_strike : hp_nf yX1_strike 1 = true := by decide +kernel
set_option maxHeartbeats 4000000 in
theorem m_X1_strike {l : Launch} {B : Nat} {D : va_G} {s0 : State} {b0 : Nat} (G : hp_G l B D s0 b0) (o : Nat) (a1 : Int32) (Si : hp_St) (Q : Int32 → hp_St → Prop) (hc0 : st_C Si o = 1) (h : wp_X1_strike o a1 Si Q) : hp_M l B D s0 yX1_strike cX1_strike 2 (some .int) 9 576 2 66 [hp_v B o, .int a1] Si (hp_Qi B D s0 (fun r S' => hp_mono Si S' ∧ Q r S')) := by
  refine hp_start G (by decide +kernel) rfl rfl (lv := [(0, hp_v B o), (1, .int a1)]) (by simp [lg_sl, hp_vc, hp_ci, hp_cj]) (by simp [lv_args, hp_vc, hp_ci, hp_cj]) ?_
  intro p e s m args below meth c E ls hl hR
  have hm : hp_mono Si Si := hp_mono.rf
  generalize hH : s.heap = H at hR ⊢
  generalize hLo : ([] : List Loc) = locs at hR ⊢
  have b29 : ∀ (S : hp_St) (H : Heap) (locs : List Loc) (ls : Array Slot), wb_X1_strike_29 o a1 S Q → lv_has ls 2 [] → hp_S B D s0 S H locs → hp_mono Si S → W p l e ({ frames := 9, cells := 2, slots := 66, locals := 576 } : Room) s m args below meth c H locs 0 0 (MQ below (hp_Qi B D s0 (fun r S' => hp_mono Si S' ∧ Q r S')) args s 2 66 (fun q => B < q)) (F0 m 29 ls []) := by
    intro S H locs ls h hl hR hm
    unfold wb_X1_strike_29 at h
    refine hp_iconst E (-1 : Int32) (by decide) dX1_strike_29 (rfl : 29 + 1 = 30) ?_
    exact hp_iret E hR ⟨hm, h⟩ (Nat.le_of_ble_eq_true rfl) (Nat.le_of_ble_eq_true rfl) dX1_strike_30
  unfold wp_X1_strike at h
  refine hp_iload_n E hl 1 rfl 1 rfl dX1_strike_0 (rfl : 0 + 1 = 1) ?_
  refine hp_iconst E (0 : Int32) (by decide) dX1_strike_1 (rfl : 1 + 1 = 2) ?_
  refine hp_aload_n E hl 0 rfl 0 rfl dX1_strike_2 (rfl : 2 + 1 = 3) ?_
  refine hp_getR E hR in_X1 hc0 rfl 10 (Nat.le_of_ble_eq_true rfl) rfl q331 (fun _ h => h) dX1_strike_3 (rfl : 3 + 3 = 6) ?_
  obtain ⟨hc1, h⟩ := h
  refine hp_fi (hp_rV E hR hl (m_J2_size G _ _ _ hc1 h) hc1 (ci := 16) rfl rfl q691 q545 q546 q78 q547 nf_J2_size ⟨Nat.le_of_ble_eq_true rfl, Nat.le_of_ble_eq_true rfl⟩ (rest := [.int (0 : Int32), .int a1]) rfl (Nat.le_of_ble_eq_true rfl) dX1_strike_6 ⟨Nat.le_of_ble_eq_true rfl, Nat.le_of_ble_eq_true rfl⟩) hR (rfl : 6 + 3 = 9) (fun z2 Sx H locs hq hR => ?_)
  obtain ⟨hSx, h⟩ := hq
  rw [hSx] at hR
  refine hp_iconst E (1 : Int32) (by decide) dX1_strike_9 (rfl : 9 + 1 = 10) ?_
  refine hp_isub E dX1_strike_10 (rfl : 10 + 1 = 11) ?_
  refine hp_fi (hp_rS E hR hl (m_X1_in G _ _ _ _ _ h) q394 q395 q73 q396 nf_X1_in ⟨Nat.le_of_ble_eq_true rfl, Nat.le_of_ble_eq_true rfl⟩ (rest := []) rfl (Nat.le_of_ble_eq_true rfl) dX1_strike_11 ⟨Nat.le_of_ble_eq_true rfl, Nat.le_of_ble_eq_true rfl⟩) hR (rfl : 11 + 3 = 14) (fun z3 Sx H locs hq hR => ?_)
  obtain ⟨hSx, h⟩ := hq
  rw [hSx] at hR
  refine hp_if_eq E dX1_strike_14 (rfl : 14 + 3 = 17) (tgt := 29) (by decide) (fun hb => ?_) (fun hb => ?_)
  · have h := h.1 hb
    exact b29 _ _ _ _ h (lv_sub hl [] rfl) hR hm
  · have h := h.2 hb
    refine hp_aload_n E hl 0 rfl 0 rfl dX1_strike_17 (rfl : 17 + 1 = 18) ?_
    refine hp_getR E hR in_X1 hc0 rfl 10 (Nat.le_of_ble_eq_true rfl) rfl q331 (fun _ h => h) dX1_strike_18 (rfl : 18 + 3 = 21) ?_
    refine hp_fi (hp_rV E hR hl (m_J2_size G _ _ _ hc1 h) hc1 (ci := 16) rfl rfl q691 q545 q546 q78 q547 nf_J2_size ⟨Nat.le_of_ble_eq_true rfl, Nat.le_of_ble_eq_true rfl⟩ (rest := []) rfl (Nat.le_of_ble_eq_true rfl) dX1_strike_21 ⟨Nat.le_of_ble_eq_true rfl, Nat.le_of_ble_eq_true rfl⟩) hR (rfl : 21 + 3 = 24) (fun z4 Sx H locs hq hR => ?_)
    obtain ⟨hSx, h⟩ := hq
    rw [hSx] at hR
    refine hp_bipush E (60 : Int32) (by decide) dX1_strike_24 (rfl : 24 + 2 = 26) ?_
    refine hp_icmp_ne E dX1_strike_26 (rfl : 26 + 3 = 29) (tgt := 31) (by decide) (fun hb => ?_) (fun hb => ?_)
    · have h := h.1 hb
      exact b29 _ _ _ _ h (lv_sub hl [] rfl) hR hm
    · have h := h.2 hb
      refine hp_aload_n E hl 0 rfl 0 rfl dX1_strike_31 (rfl : 31 + 1 = 32) ?_
      refine hp_getR E hR in_X1 hc0 rfl 10 (Nat.le_of_ble_eq_true rfl) rfl q331 (fun _ h => h) dX1_strike_32 (rfl : 32 + 3 = 35) ?_
      refine hx_new E hR in_X18 tyX18 tyX18_ok (ci := 15) rfl hd_X18 q931 q932 q104 (Nat.le_of_ble_eq_true rfl) (Nat.le_of_ble_eq_true rfl) dX1_strike_35 (rfl : 35 + 3 = 38) (fun n8 S5 H e9 e7 hf10 hm6 hc11 hR => ?_)
      have h := h n8 S5 e9 e7 hf10
      have hm := hp_mono.tr hm hm6
      refine hp_dup E hp_vc dX1_strike_38 (rfl : 38 + 1 = 39) ?_
      refine hp_aload_n E hl 0 rfl 0 rfl dX1_strike_39 (rfl : 39 + 1 = 40) ?_
      refine hp_getI E hR in_X1 (hp_mono.c hm hc0) rfl 4 (Nat.le_of_ble_eq_true rfl) rfl q320 (fun _ h => h) dX1_strike_40 (rfl : 40 + 3 = 43) ?_
      refine hp_iload_n E hl 1 rfl 1 rfl dX1_strike_43 (rfl : 43 + 1 = 44) ?_
      refine hp_fv (hp_rI E hR hl (hp_ne hR hc11) (m_X18_init G _ _ _ _ _ hc11 h) rfl q933 q934 q104 q935 nf_X18_init ⟨Nat.le_of_ble_eq_true rfl, Nat.le_of_ble_eq_true rfl⟩ (rest := [hp_v B n8, hp_v B (st_R Si o 10)]) rfl (Nat.le_of_ble_eq_true rfl) dX1_strike_44 ⟨Nat.le_of_ble_eq_true rfl, Nat.le_of_ble_eq_true rfl⟩) hR (rfl : 44 + 3 = 47) (fun S12 H locs hq hR => ?_)
      obtain ⟨hm13, h⟩ := hq
      have h := h hm13
      have hm := hp_mono.tr hm hm13
      refine hp_fi (hp_rV E hR hl (m_J2_add G _ _ _ _ (hp_mono.c hm hc1) h) (hp_mono.c hm hc1) (ci := 16) rfl rfl q718 q613 q614 q78 q615 nf_J2_add ⟨Nat.le_of_ble_eq_true rfl, Nat.le_of_ble_eq_true rfl⟩ (rest := []) rfl (Nat.le_of_ble_eq_true rfl) dX1_strike_47 ⟨Nat.le_of_ble_eq_true rfl, Nat.le_of_ble_eq_true rfl⟩) hR (rfl : 47 + 3 = 50) (fun z14 S15 H locs hq hR => ?_)
      obtain ⟨hm16, h⟩ := hq
      have h := h hm16
      have hm := hp_mono.tr hm hm16
      refine hp_pop E rfl dX1_strike_50 (rfl : 50 + 1 = 51) ?_
      refine hp_aload_n E hl 0 rfl 0 rfl dX1_strike_51 (rfl : 51 + 1 = 52) ?_
      refine hp_iconst E (0 : Int32) (by decide) dX1_strike_52 (rfl : 52 + 1 = 53) ?_
      refine hx_putI E hR in_X1 tyX1 tyX1_ok nmX1 (hp_mono.c hm hc0) rfl 17 (Nat.le_of_ble_eq_true rfl) rfl q340 (fun _ h => h) (Or.inl rfl) (Or.inr ⟨rfl, (Or.inl rfl)⟩) dX1_strike_53 (rfl : 53 + 3 = 56) (fun S17 H locs e19 hm18 hR => ?_)
      have h := h S17 e19
      have hm := hp_mono.tr hm hm18
      refine hp_aload_n E hl 0 rfl 0 rfl dX1_strike_56 (rfl : 56 + 1 = 57) ?_
      refine hp_getR E hR in_X1 (hp_mono.c hm hc0) rfl 10 (Nat.le_of_ble_eq_true rfl) rfl q331 (fun _ h => h) dX1_strike_57 (rfl : 57 + 3 = 60) ?_
      obtain ⟨hc20, h⟩ := h
      refine hp_fi (hp_rV E hR hl (m_J2_size G _ _ _ hc20 h) hc20 (ci := 16) rfl rfl q691 q545 q546 q78 q547 nf_J2_size ⟨Nat.le_of_ble_eq_true rfl, Nat.le_of_ble_eq_true rfl⟩ (rest := []) rfl (Nat.le_of_ble_eq_true rfl) dX1_strike_60 ⟨Nat.le_of_ble_eq_true rfl, Nat.le_of_ble_eq_true rfl⟩) hR (rfl : 60 + 3 = 63) (fun z21 Sx H locs hq hR => ?_)
      obtain ⟨hSx, h⟩ := hq
      rw [hSx] at hR
      refine hp_iconst E (1 : Int32) (by decide) dX1_strike_63 (rfl : 63 + 1 = 64) ?_
      refine hp_isub E dX1_strike_64 (rfl : 64 + 1 = 65) ?_
      exact hp_iret E hR ⟨hm, h⟩ (Nat.le_of_ble_eq_true rfl) (Nat.le_of_ble_eq_true rfl) dX1_strike_65
def wp_X14_struck (o : Nat) (S : hp_St) (Q : Int32 → Prop) : Prop := Q (-1 : Int32)
theorem nf_X14_struck : hp_nf yX14_struck 0 = true := by decide +kernel
set_option maxHeartbeats 4000000 in
theorem m_X14_struck {l : Launch} {B : Nat} {D : va_G} {s0 : State} {b0 : Nat} (G : hp_G l B D s0 b0) (o : Nat) (Si : hp_St) (Q : Int32 → Prop) (hc0 : st_C Si o = 14 ∨ st_C Si o = 15) (h : wp_X14_struck o Si Q) : hp_M l B D s0 yX14_struck cX14_struck 1 (some .int) 2 128 0 0 [hp_v B o] Si (hp_Qi B D s0 (fun r S' => S' = Si ∧ Q r)) := by
  refine hp_start G (by decide +kernel) rfl rfl (lv := [(0, hp_v B o)]) (by simp [lg_sl, hp_vc, hp_ci, hp_cj]) (by simp [lv_args, hp_vc, hp_ci, hp_cj]) ?_
  intro p e s m args below meth c E ls hl hR
  unfold wp_X14_struck at h
  refine hp_iconst E (-1 : Int32) (by decide) dX14_struck_0 (rfl : 0 + 1 = 1) ?_
  exact hp_iret E hR ⟨rfl, h⟩ (Nat.le_of_ble_eq_true rfl) (Nat.le_of_ble_eq_true rfl) dX14_struck_1
def wp_X18_struck (o : Nat) (S : hp_St) (Q : Int32 → Prop) : Prop := Q (st_I S o 1)
theorem nf_X18_struck : hp_nf yX18_struck 0 = true := by decide +kernel
set_option maxHeartbeats 4000000 in
theorem m_X18_struck {l : Launch} {B : Nat} {D : va_G} {s0 : State} {b0 : Nat} (G : hp_G l B D s0 b0) (o : Nat) (Si : hp_St) (Q : Int32 → Prop) (hc0 : st_C Si o = 16) (h : wp_X18_struck o Si Q) : hp_M l B D s0 yX18_struck cX18_struck 1 (some .int) 2 128 0 0 [hp_v B o] Si (hp_Qi B D s0 (fun r S' => S' = Si ∧ Q r)) := by
  refine hp_start G (by decide +kernel) rfl rfl (lv := [(0, hp_v B o)]) (by simp [lg_sl, hp_vc, hp_ci, hp_cj]) (by simp [lv_args, hp_vc, hp_ci, hp_cj]) ?_
  intro p e s m args below meth c E ls hl hR
  unfold wp_X18_struck at h
  refine hp_aload_n E hl 0 rfl 0 rfl dX18_struck_0 (rfl : 0 + 1 = 1) ?_
  refine hp_getI E hR in_X18 hc0 rfl 1 (Nat.le_of_ble_eq_true rfl) rfl q937 (fun _ h => h) dX18_struck_1 (rfl : 1 + 3 = 4) ?_
  exact hp_iret E hR ⟨rfl, h⟩ (Nat.le_of_ble_eq_true rfl) (Nat.le_of_ble_eq_true rfl) dX18_struck_4
def wb_X4_counts_38 (o : Nat) (a1 : Int32) (t0 : Int32) (S : hp_St) (Q : Int32 → Prop) : Prop := (t0 = 0 ∨ t0 = 1) ∧ Q t0
def wb_X4_counts_37 (o : Nat) (a1 : Int32) (S : hp_St) (Q : Int32 → Prop) : Prop := wb_X4_counts_38 o a1 (0 : Int32) S Q
def wp_X4_counts (o : Nat) (a1 : Int32) (S : hp_St) (Q : Int32 → Prop) : Prop := (st_C S (st_R S o 4) = 1) ∧ (st_C S (st_R S (st_R S o 4) 10) = 17) ∧ wp_J2_get (st_R S (st_R S o 4) 10) a1 S (fun z3 => (st_C S z3 = 14 ∨ st_C S z3 = 15 ∨ st_C S z3 = 16) ∧ ((((st_I S z3 0) ≤ (st_I S o 3)) → (st_C S (st_R S o 2) = 51) ∧ (vp_in a1 (st_L S (st_R S o 2))) ∧ ((((st_I S (st_R S o 2) a1.toNatClampNeg) = 0) → wb_X4_counts_38 o a1 (1 : Int32) S Q) ∧ ((¬ ((st_I S (st_R S o 2) a1.toNatClampNeg) = 0)) → wb_X4_counts_37 o a1 S Q))) ∧ ((¬ ((st_I S z3 0) ≤ (st_I S o 3))) → wb_X4_counts_37 o a1 S Q)))
theorem nf_X4_counts : hp_nf yX4_counts 1 = true := by decide +kernel
set_option maxHeartbeats 4000000 in
theorem m_X4_counts {l : Launch} {B : Nat} {D : va_G} {s0 : State} {b0 : Nat} (G : hp_G l B D s0 b0) (o : Nat) (a1 : Int32) (Si : hp_St) (Q : Int32 → Prop) (hc0 : st_C Si o = 4) (h : wp_X4_counts o a1 Si Q) : hp_M l B D s0 yX4_counts cX4_counts 2 (some .boolean) 5 320 0 0 [hp_v B o, .int a1] Si (hp_Qi B D s0 (fun r S' => S' = Si ∧ Q r)) := by
  refine hp_start G (by decide +kernel) rfl rfl (lv := [(0, hp_v B o), (1, .int a1)]) (by simp [lg_sl, hp_vc, hp_ci, hp_cj]) (by simp [lv_args, hp_vc, hp_ci, hp_cj]) ?_
  intro p e s m args below meth c E ls hl hR
  generalize hH : s.heap = H at hR ⊢
  generalize hLo : ([] : List Loc) = locs at hR ⊢
  have b38 : ∀ (t0 : Int32) (H : Heap) (locs : List Loc) (ls : Array Slot), wb_X4_counts_38 o a1 t0 Si Q → lv_has ls 2 [] → hp_S B D s0 Si H locs → W p l e ({ frames := 5, cells := 0, slots := 0, locals := 320 } : Room) s m args below meth c H locs 0 0 (MQ below (hp_Qi B D s0 (fun r S' => S' = Si ∧ Q r)) args s 0 0 (fun q => B < q)) (F0 m 38 ls [.int t0]) := by
    intro t0 H locs ls h hl hR
    unfold wb_X4_counts_38 at h
    obtain ⟨hz3801, h⟩ := h
    exact hp_zret E hR hz3801 ⟨rfl, h⟩ (Nat.le_of_ble_eq_true rfl) (Nat.le_of_ble_eq_true rfl) dX4_counts_38
  have b37 : ∀ (H : Heap) (locs : List Loc) (ls : Array Slot), wb_X4_counts_37 o a1 Si Q → lv_has ls 2 [] → hp_S B D s0 Si H locs → W p l e ({ frames := 5, cells := 0, slots := 0, locals := 320 } : Room) s m args below meth c H locs 0 0 (MQ below (hp_Qi B D s0 (fun r S' => S' = Si ∧ Q r)) args s 0 0 (fun q => B < q)) (F0 m 37 ls []) := by
    intro  H locs ls h hl hR
    unfold wb_X4_counts_37 at h
    refine hp_iconst E (0 : Int32) (by decide) dX4_counts_37 (rfl : 37 + 1 = 38) ?_
    exact b38 _ _ _ _ h hl hR
  unfold wp_X4_counts at h
  refine hp_aload_n E hl 0 rfl 0 rfl dX4_counts_0 (rfl : 0 + 1 = 1) ?_
  refine hp_getR E hR in_X4 hc0 rfl 4 (Nat.le_of_ble_eq_true rfl) rfl q237 (fun _ h => h) dX4_counts_1 (rfl : 1 + 3 = 4) ?_
  obtain ⟨hc1, h⟩ := h
  refine hp_getRN E hR in_X1 hc1 rfl 10 (Nat.le_of_ble_eq_true rfl) rfl q330 (fun _ h => h) dX4_counts_4 (rfl : 4 + 3 = 7) ?_
  refine hp_iload_n E hl 1 rfl 1 rfl dX4_counts_7 (rfl : 7 + 1 = 8) ?_
  obtain ⟨hc2, h⟩ := h
  refine hp_fa (hp_rV E hR hl (m_J2_get G _ _ _ _ hc2 h) hc2 (ci := 16) rfl rfl q951 q728 q729 q78 q730 nf_J2_get ⟨Nat.le_of_ble_eq_true rfl, Nat.le_of_ble_eq_true rfl⟩ (rest := []) rfl (Nat.le_of_ble_eq_true rfl) dX4_counts_8 ⟨Nat.le_of_ble_eq_true rfl, Nat.le_of_ble_eq_true rfl⟩) hR (rfl : 8 + 3 = 11) (fun z3 Sx H locs hq hR => ?_)
  obtain ⟨hSx, h⟩ := hq
  rw [hSx] at hR
  obtain ⟨hc4, h⟩ := h
  refine hp_or3 hc4 (fun hc kk => hp_castY E hR hc (ci := 13) rfl q952 q1725 dX4_counts_11 (rfl : 11 + 3 = 14) kk) (fun hc kk => hp_castY E hR hc (ci := 14) rfl q952 q1726 dX4_counts_11 (rfl : 11 + 3 = 14) kk) (fun hc kk => hp_castY E hR hc (ci := 15) rfl q952 q1727 dX4_counts_11 (rfl : 11 + 3 = 14) kk) ?_
  refine hp_or3 hc4 (fun hc kk => hp_getI E hR in_N16 hc rfl 0 (Nat.le_of_ble_eq_true rfl) rfl q909 (fun _ h => h) dX4_counts_14 (rfl : 14 + 3 = 17) kk) (fun hc kk => hp_getI E hR in_N17 hc rfl 0 (Nat.le_of_ble_eq_true rfl) rfl q909 (fun _ h => h) dX4_counts_14 (rfl : 14 + 3 = 17) kk) (fun hc kk => hp_getI E hR in_X18 hc rfl 0 (Nat.le_of_ble_eq_true rfl) rfl q909 (fun _ h => h) dX4_counts_14 (rfl : 14 + 3 = 17) kk) ?_
  refine hp_aload_n E hl 0 rfl 0 rfl dX4_counts_17 (rfl : 17 + 1 = 18) ?_
  refine hp_getI E hR in_X4 hc0 rfl 3 (Nat.le_of_ble_eq_true rfl) rfl q235 (fun _ h => h) dX4_counts_18 (rfl : 18 + 3 = 21) ?_
  refine hp_icmp_gt E dX4_counts_21 (rfl : 21 + 3 = 24) (tgt := 37) (by decide) (fun hb => ?_) (fun hb => ?_)
  · have h := h.1 hb
    refine hp_aload_n E hl 0 rfl 0 rfl dX4_counts_24 (rfl : 24 + 1 = 25) ?_
    refine hp_getR E hR in_X4 hc0 rfl 2 (Nat.le_of_ble_eq_true rfl) rfl q234 (fun _ h => h) dX4_counts_25 (rfl : 25 + 3 = 28) ?_
    refine hp_iload_n E hl 1 rfl 1 rfl dX4_counts_28 (rfl : 28 + 1 = 29) ?_
    obtain ⟨hc5, h⟩ := h
    obtain ⟨hi6, h⟩ := h
    refine hp_zald E hR hc5 hi6 dX4_counts_29 (rfl : 29 + 1 = 30) ?_
    refine hp_if_ne E dX4_counts_30 (rfl : 30 + 3 = 33) (tgt := 37) (by decide) (fun hb => ?_) (fun hb => ?_)
    · have h := h.1 hb
      refine hp_iconst E (1 : Int32) (by decide) dX4_counts_33 (rfl : 33 + 1 = 34) ?_
      refine hp_goto E (tgt := 38) dX4_counts_34 (by decide) ?_
      exact b38 _ _ _ _ h (lv_sub hl [] rfl) hR
    · have h := h.2 hb
      exact b37 _ _ _ h (lv_sub hl [] rfl) hR
  · have h := h.2 hb
    exact b37 _ _ _ h (lv_sub hl [] rfl) hR
def wp_X16_tell (o : Nat) (a1 : Nat) (S : hp_St) (Q : hp_St → Prop) : Prop := (st_C S a1 = 4) ∧ (st_C S (st_R S o 1) = 10) ∧ (st_C S (st_R S a1 0) = 50) ∧ (vp_in (st_I S (st_R S o 1) 0) (st_L S (st_R S a1 0))) ∧ (∀ S5, S5 = st_pI S (st_R S a1 0) (st_I S (st_R S o 1) 0).toNatClampNeg (st_I S o 2) → Q S5)
theorem nf_X16_tell : hp_nf yX16_tell 1 = true := by decide +kernel
set_option maxHeartbeats 4000000 in
theorem m_X16_tell {l : Launch} {B : Nat} {D : va_G} {s0 : State} {b0 : Nat} (G : hp_G l B D s0 b0) (o : Nat) (a1 : Nat) (Si : hp_St) (Q : hp_St → Prop) (hc0 : st_C Si o = 14) (h : wp_X16_tell o a1 Si Q) : hp_M l B D s0 yX16_tell cX16_tell 2 none 2 128 0 0 [hp_v B o, hp_v B a1] Si (hp_Qv B D s0 (fun S' => hp_mono Si S' ∧ Q S')) := by
  refine hp_start G (by decide +kernel) rfl rfl (lv := [(0, hp_v B o), (1, hp_v B a1)]) (by simp [lg_sl, hp_vc, hp_ci, hp_cj]) (by simp [lv_args, hp_vc, hp_ci, hp_cj]) ?_
  intro p e s m args below meth c E ls hl hR
  have hm : hp_mono Si Si := hp_mono.rf
  unfold wp_X16_tell at h
  refine hp_aload_n E hl 1 rfl 1 rfl dX16_tell_0 (rfl : 0 + 1 = 1) ?_
  obtain ⟨hc1, h⟩ := h
  refine hp_getRN E hR in_X4 hc1 rfl 0 (Nat.le_of_ble_eq_true rfl) rfl q227 (fun _ h => h) dX16_tell_1 (rfl : 1 + 3 = 4) ?_
  refine hp_aload_n E hl 0 rfl 0 rfl dX16_tell_4 (rfl : 4 + 1 = 5) ?_
  refine hp_getR E hR in_N16 hc0 rfl 1 (Nat.le_of_ble_eq_true rfl) rfl q899 (fun x h => u_same (E.w q900) x h) dX16_tell_5 (rfl : 5 + 3 = 8) ?_
  obtain ⟨hc2, h⟩ := h
  refine hp_getIN E hR in_X10 hc2 rfl 0 (Nat.le_of_ble_eq_true rfl) rfl q699 (fun _ h => h) dX16_tell_8 (rfl : 8 + 3 = 11) ?_
  refine hp_aload_n E hl 0 rfl 0 rfl dX16_tell_11 (rfl : 11 + 1 = 12) ?_
  refine hp_getI E hR in_N16 hc0 rfl 2 (Nat.le_of_ble_eq_true rfl) rfl q904 (fun x h => u_same (E.w q905) x h) dX16_tell_12 (rfl : 12 + 3 = 15) ?_
  obtain ⟨hc3, h⟩ := h
  obtain ⟨hi4, h⟩ := h
  refine hx_iast E hR hc3 hi4 dX16_tell_15 (rfl : 15 + 1 = 16) (fun S5 H locs e7 hm6 hR => ?_)
  have h := h S5 e7
  have hm := hp_mono.tr hm hm6
  exact hp_vret E hR ⟨hm, h⟩ (Nat.le_of_ble_eq_true rfl) (Nat.le_of_ble_eq_true rfl) dX16_tell_16
def wp_X17_tell (o : Nat) (a1 : Nat) (S : hp_St) (Q : hp_St → Prop) : Prop := (st_C S a1 = 4) ∧ (st_C S (st_R S o 1) = 10) ∧ (st_C S (st_R S a1 1) = 56) ∧ (vp_in (st_I S (st_R S o 1) 0) (st_L S (st_R S a1 1))) ∧ (st_C S (st_R S (st_R S a1 1) (st_I S (st_R S o 1) 0).toNatClampNeg) = 51) ∧ (vp_in (st_I S o 2) (st_L S (st_R S (st_R S a1 1) (st_I S (st_R S o 1) 0).toNatClampNeg))) ∧ (∀ S7, S7 = st_pI S (st_R S (st_R S a1 1) (st_I S (st_R S o 1) 0).toNatClampNeg) (st_I S o 2).toNatClampNeg (1 : Int32) → Q S7)
theorem nf_X17_tell : hp_nf yX17_tell 1 = true := by decide +kernel
set_option maxHeartbeats 4000000 in
theorem m_X17_tell {l : Launch} {B : Nat} {D : va_G} {s0 : State} {b0 : Nat} (G : hp_G l B D s0 b0) (o : Nat) (a1 : Nat) (Si : hp_St) (Q : hp_St → Prop) (hc0 : st_C Si o = 15) (h : wp_X17_tell o a1 Si Q) : hp_M l B D s0 yX17_tell cX17_tell 2 none 2 128 0 0 [hp_v B o, hp_v B a1] Si (hp_Qv B D s0 (fun S' => hp_mono Si S' ∧ Q S')) := by
  refine hp_start G (by decide +kernel) rfl rfl (lv := [(0, hp_v B o), (1, hp_v B a1)]) (by simp [lg_sl, hp_vc, hp_ci, hp_cj]) (by simp [lv_args, hp_vc, hp_ci, hp_cj]) ?_
  intro p e s m args below meth c E ls hl hR
  have hm : hp_mono Si Si := hp_mono.rf
  unfold wp_X17_tell at h
  refine hp_aload_n E hl 1 rfl 1 rfl dX17_tell_0 (rfl : 0 + 1 = 1) ?_
  obtain ⟨hc1, h⟩ := h
  refine hp_getRN E hR in_X4 hc1 rfl 1 (Nat.le_of_ble_eq_true rfl) rfl q233 (fun _ h => h) dX17_tell_1 (rfl : 1 + 3 = 4) ?_
  refine hp_aload_n E hl 0 rfl 0 rfl dX17_tell_4 (rfl : 4 + 1 = 5) ?_
  refine hp_getR E hR in_N17 hc0 rfl 1 (Nat.le_of_ble_eq_true rfl) rfl q901 (fun x h => u_same (E.w q902) x h) dX17_tell_5 (rfl : 5 + 3 = 8) ?_
  obtain ⟨hc2, h⟩ := h
  refine hp_getIN E hR in_X10 hc2 rfl 0 (Nat.le_of_ble_eq_true rfl) rfl q700 (fun _ h => h) dX17_tell_8 (rfl : 8 + 3 = 11) ?_
  obtain ⟨hc3, h⟩ := h
  obtain ⟨hi4, h⟩ := h
  refine hp_aald E hR (Or.inr (Or.inr hc3)) hi4 dX17_tell_11 (rfl : 11 + 1 = 12) ?_
  refine hp_aload_n E hl 0 rfl 0 rfl dX17_tell_12 (rfl : 12 + 1 = 13) ?_
  refine hp_getI E hR in_N17 hc0 rfl 2 (Nat.le_of_ble_eq_true rfl) rfl q906 (fun x h => u_same (E.w q907) x h) dX17_tell_13 (rfl : 13 + 3 = 16) ?_
  refine hp_iconst E (1 : Int32) (by decide) dX17_tell_16 (rfl : 16 + 1 = 17) ?_
  obtain ⟨hc5, h⟩ := h
  obtain ⟨hi6, h⟩ := h
  refine hx_zast E hR hc5 hi6 (Or.inr rfl) dX17_tell_17 (rfl : 17 + 1 = 18) (fun S7 H locs e9 hm8 hR => ?_)
  have h := h S7 e9
  have hm := hp_mono.tr hm hm8
  exact hp_vret E hR ⟨hm, h⟩ (Nat.le_of_ble_eq_true rfl) (Nat.le_of_ble_eq_true rfl) dX17_tell_18
def wp_X14_tell (o : Nat) (a1 : Nat) (S : hp_St) (Q : hp_St → Prop) : Prop := Q S
theorem nf_X14_tell : hp_nf yX14_tell 1 = true := by decide +kernel
set_option maxHeartbeats 4000000 in
theorem m_X14_tell {l : Launch} {B : Nat} {D : va_G} {s0 : State} {b0 : Nat} (G : hp_G l B D s0 b0) (o : Nat) (a1 : Nat) (Si : hp_St) (Q : hp_St → Prop) (hc0 : st_C Si o = 16) (h : wp_X14_tell o a1 Si Q) : hp_M l B D s0 yX14_tell cX14_tell 2 none 2 128 0 0 [hp_v B o, hp_v B a1] Si (hp_Qv B D s0 (fun S' => hp_mono Si S' ∧ Q S')) := by
  refine hp_start G (by decide +kernel) rfl rfl (lv := [(0, hp_v B o), (1, hp_v B a1)]) (by simp [lg_sl, hp_vc, hp_ci, hp_cj]) (by simp [lv_args, hp_vc, hp_ci, hp_cj]) ?_
  intro p e s m args below meth c E ls hl hR
  have hm : hp_mono Si Si := hp_mono.rf
  unfold wp_X14_tell at h
  exact hp_vret E hR ⟨hm, h⟩ (Nat.le_of_ble_eq_true rfl) (Nat.le_of_ble_eq_true rfl) dX14_tell_0
def wb_X4_know_217 (o : Nat) (a1 : Int32) (v2 : Int32) (S : hp_St) (K177 : Int32 → hp_St → Prop) (Q : Nat → hp_St → Prop) : Prop := K177 (v2 + (1 : Int32)) S
def wb_X4_know_177 (o : Nat) (a1 : Int32) (v2 : Int32) (S : hp_St) (K177 : Int32 → hp_St → Prop) (Q : Nat → hp_St → Prop) : Prop := (st_C S (st_R S o 4) = 1) ∧ (st_C S (st_R S (st_R S o 4) 10) = 17) ∧ wp_J2_size (st_R S (st_R S o 4) 10) S (fun z17703 => (((v2 < z17703) → wp_X4_counts o v2 S (fun z17704 => (((z17704 = 0) → wb_X4_know_217 o a1 v2 S K177 Q) ∧ ((¬ (z17704 = 0)) → wp_J2_get (st_R S (st_R S o 4) 10) v2 S (fun z17705 => (st_C S z17705 = 14 ∨ st_C S z17705 = 15 ∨ st_C S z17705 = 16) ∧ hp_virt (fun Kc17709 => (st_C S z17705 = 14 → wp_X16_tell z17705 o S Kc17709) ∧ (st_C S z17705 = 15 → wp_X17_tell z17705 o S Kc17709) ∧ (st_C S z17705 = 16 → wp_X14_tell z17705 o S Kc17709)) (fun S17707 => hp_mono S S17707 → wb_X4_know_217 o a1 v2 S17707 K177 Q)))))) ∧ ((¬ (v2 < z17703)) → Q o S)))
def wl_X4_know_177 (o : Nat) (a1 : Int32) (v2 : Int32) (S : hp_St) (Q : Nat → hp_St → Prop) : Prop := ∃ (I : Int32 → hp_St → Prop) (μ : Int32 → hp_St → Nat), I v2 S ∧ ∀ (v2 : Int32) (S1 : hp_St), hp_mono S S1 → I v2 S1 → wb_X4_know_177 o a1 v2 S1 (fun v2' S2 => I v2' S2 ∧ μ v2' S2 < μ v2 S1) Q
def wb_X4_know_169 (o : Nat) (a1 : Int32) (v2 : Int32) (S : hp_St) (K91 : Int32 → hp_St → Prop) (Q : Nat → hp_St → Prop) : Prop := K91 (v2 + (-1 : Int32)) S
def wb_X4_know_91 (o : Nat) (a1 : Int32) (v2 : Int32) (S : hp_St) (K91 : Int32 → hp_St → Prop) (Q : Nat → hp_St → Prop) : Prop := (((v2 < 0) → wl_X4_know_177 o a1 (0 : Int32) S Q) ∧ ((¬ (v2 < 0)) → (st_C S (st_R S o 4) = 1) ∧ (st_C S (st_R S (st_R S o 4) 10) = 17) ∧ wp_J2_get (st_R S (st_R S o 4) 10) v2 S (fun z9103 => (st_C S z9103 = 14 ∨ st_C S z9103 = 15 ∨ st_C S z9103 = 16) ∧ ((((st_I S z9103 0) ≤ a1) → (st_C S (st_R S o 2) = 51) ∧ (vp_in v2 (st_L S (st_R S o 2))) ∧ ((((st_I S (st_R S o 2) v2.toNatClampNeg) = 0) → wp_J2_get (st_R S (st_R S o 4) 10) v2 S (fun z9107 => (st_C S z9107 = 14 ∨ st_C S z9107 = 15 ∨ st_C S z9107 = 16) ∧ hp_virt (fun Kc9110 => (st_C S z9107 = 14 → wp_X14_struck z9107 S Kc9110) ∧ (st_C S z9107 = 15 → wp_X14_struck z9107 S Kc9110) ∧ (st_C S z9107 = 16 → wp_X18_struck z9107 S Kc9110)) (fun z9109 => (((z9109 = (-1 : Int32)) → wb_X4_know_169 o a1 v2 S K91 Q) ∧ ((¬ (z9109 = (-1 : Int32))) → wp_J2_get (st_R S (st_R S o 4) 10) v2 S (fun z9111 => (st_C S z9111 = 14 ∨ st_C S z9111 = 15 ∨ st_C S z9111 = 16) ∧ hp_virt (fun Kc9114 => (st_C S z9111 = 14 → wp_X14_struck z9111 S Kc9114) ∧ (st_C S z9111 = 15 → wp_X14_struck z9111 S Kc9114) ∧ (st_C S z9111 = 16 → wp_X18_struck z9111 S Kc9114)) (fun z9113 => (vp_in z9113 (st_L S (st_R S o 2))) ∧ (∀ S9116, S9116 = st_pI S (st_R S o 2) z9113.toNatClampNeg (1 : Int32) → wb_X4_know_169 o a1 v2 S9116 K91 Q)))))))) ∧ ((¬ ((st_I S (st_R S o 2) v2.toNatClampNeg) = 0)) → wb_X4_know_169 o a1 v2 S K91 Q))) ∧ ((¬ ((st_I S z9103 0) ≤ a1)) → wb_X4_know_169 o a1 v2 S K91 Q)))))
def wl_X4_know_91 (o : Nat) (a1 : Int32) (v2 : Int32) (S : hp_St) (Q : Nat → hp_St → Prop) : Prop := ∃ (I : Int32 → hp_St → Prop) (μ : Int32 → hp_St → Nat), I v2 S ∧ ∀ (v2 : Int32) (S1 : hp_St), hp_mono S S1 → I v2 S1 → wb_X4_know_91 o a1 v2 S1 (fun v2' S2 => I v2' S2 ∧ μ v2' S2 < μ v2 S1) Q
def wb_X4_know_51 (o : Nat) (a1 : Int32) (v2 : Int32) (S : hp_St) (K51 : Int32 → hp_St → Prop) (Q : Nat → hp_St → Prop) : Prop := (st_C S (st_R S o 4) = 1) ∧ (st_C S (st_R S (st_R S o 4) 10) = 17) ∧ wp_J2_size (st_R S (st_R S o 4) 10) S (fun z5103 => (((v2 < z5103) → (st_C S (st_R S o 2) = 51) ∧ (vp_in v2 (st_L S (st_R S o 2))) ∧ (∀ S5106, S5106 = st_pI S (st_R S o 2) v2.toNatClampNeg (0 : Int32) → K51 (v2 + (1 : Int32)) S5106)) ∧ ((¬ (v2 < z5103)) → wp_J2_size (st_R S (st_R S o 4) 10) S (fun z5109 => wl_X4_know_91 o a1 (z5109 - (1 : Int32)) S Q))))
def wl_X4_know_51 (o : Nat) (a1 : Int32) (v2 : Int32) (S : hp_St) (Q : Nat → hp_St → Prop) : Prop := ∃ (I : Int32 → hp_St → Prop) (μ : Int32 → hp_St → Nat), I v2 S ∧ ∀ (v2 : Int32) (S1 : hp_St), hp_mono S S1 → I v2 S1 → wb_X4_know_51 o a1 v2 S1 (fun v2' S2 => I v2' S2 ∧ μ v2' S2 < μ v2 S1) Q
def wb_X4_know_22 (o : Nat) (a1 : Int32) (v2 : Int32) (v3 : Int32) (S : hp_St) (K7 : Int32 → hp_St → Prop) (K22 : Int32 → hp_St → Prop) (Q : Nat → hp_St → Prop) : Prop := (((v3 < (80 : Int32)) → (st_C S (st_R S o 1) = 56) ∧ (vp_in v2 (st_L S (st_R S o 1))) ∧ (st_C S (st_R S (st_R S o 1) v2.toNatClampNeg) = 51) ∧ (vp_in v3 (st_L S (st_R S (st_R S o 1) v2.toNatClampNeg))) ∧ (∀ S2205, S2205 = st_pI S (st_R S (st_R S o 1) v2.toNatClampNeg) v3.toNatClampNeg (0 : Int32) → K22 (v3 + (1 : Int32)) S2205)) ∧ ((¬ (v3 < (80 : Int32))) → K7 (v2 + (1 : Int32)) S))
def wl_X4_know_22 (o : Nat) (a1 : Int32) (v2 : Int32) (v3 : Int32) (S : hp_St) (K7 : Int32 → hp_St → Prop) (Q : Nat → hp_St → Prop) : Prop := ∃ (I : Int32 → hp_St → Prop) (μ : Int32 → hp_St → Nat), I v3 S ∧ ∀ (v3 : Int32) (S1 : hp_St), hp_mono S S1 → I v3 S1 → wb_X4_know_22 o a1 v2 v3 S1 K7 (fun v3' S2 => I v3' S2 ∧ μ v3' S2 < μ v3 S1) Q
def wb_X4_know_7 (o : Nat) (a1 : Int32) (v2 : Int32) (S : hp_St) (K7 : Int32 → hp_St → Prop) (Q : Nat → hp_St → Prop) : Prop := (((v2 < (12 : Int32)) → (st_C S (st_R S o 0) = 50) ∧ (vp_in v2 (st_L S (st_R S o 0))) ∧ (∀ S703, S703 = st_pI S (st_R S o 0) v2.toNatClampNeg (-1 : Int32) → wl_X4_know_22 o a1 v2 (0 : Int32) S703 K7 Q)) ∧ ((¬ (v2 < (12 : Int32))) → wl_X4_know_51 o a1 (0 : Int32) S Q))
def wl_X4_know_7 (o : Nat) (a1 : Int32) (v2 : Int32) (S : hp_St) (Q : Nat → hp_St → Prop) : Prop := ∃ (I : Int32 → hp_St → Prop) (μ : Int32 → hp_St → Nat), I v2 S ∧ ∀ (v2 : Int32) (S1 : hp_St), hp_mono S S1 → I v2 S1 → wb_X4_know_7 o a1 v2 S1 (fun v2' S2 => I v2' S2 ∧ μ v2' S2 < μ v2 S1) Q
def wp_X4_know (o : Nat) (a1 : Int32) (S : hp_St) (Q : Nat → hp_St → Prop) : Prop := (∀ S1, S1 = st_pI S o 3 a1 → wl_X4_know_7 o a1 (0 : Int32) S1 Q)
theorem nf_X4_know : hp_nf yX4_know 1 = true := by decide +kernel
set_option maxHeartbeats 4000000 in
theorem m_X4_know {l : Launch} {B : Nat} {D : va_G} {s0 : State} {b0 : Nat} (G : hp_G l B D s0 b0) (o : Nat) (a1 : Int32) (Si : hp_St) (Q : Nat → hp_St → Prop) (hc0 : st_C Si o = 4) (h : wp_X4_know o a1 Si Q) : hp_M l B D s0 yX4_know cX4_know 4 (some (.object "LifeRents$Known")) 6 384 0 0 [hp_v B o, .int a1] Si (hp_Qa B D s0 (fun r S' => hp_mono Si S' ∧ Q r S')) := by
  refine hp_start G (by decide +kernel) rfl rfl (lv := [(0, hp_v B o), (1, .int a1)]) (by simp [lg_sl, hp_vc, hp_ci, hp_cj]) (by simp [lv_args, hp_vc, hp_ci, hp_cj]) ?_
  intro p e s m args below meth c E ls hl hR
  have hm : hp_mono Si Si := hp_mono.rf
  generalize hH : s.heap = H at hR ⊢
  generalize hLo : ([] : List Loc) = locs at hR ⊢
  have b177 : ∀ (v2 : Int32) (S : hp_St) (H : Heap) (locs : List Loc) (ls : Array Slot), wl_X4_know_177 o a1 v2 S Q → lv_has ls 4 [(0, hp_v B o), (2, .int v2)] → hp_S B D s0 S H locs → hp_mono Si S → W p l e ({ frames := 6, cells := 0, slots := 0, locals := 384 } : Room) s m args below meth c H locs 0 0 (MQ below (hp_Qa B D s0 (fun r S' => hp_mono Si S' ∧ Q r S')) args s 0 0 (fun q => B < q)) (F0 m 177 ls []) := by
    intro v2 S H locs ls h hl hR hm
    obtain ⟨I177, μ177, hI, hst⟩ := h
    obtain ⟨Sa177, eSa177⟩ : ∃ x, x = S := ⟨_, rfl⟩
    subst eSa177
    have key177 : ∀ (N : Nat) (v2 : Int32) (Su177 : hp_St) (H : Heap) (locs : List Loc) (ls : Array Slot), μ177 v2 Su177 < N → I177 v2 Su177 → lv_has ls 4 [(0, hp_v B o), (2, .int v2)] → hp_S B D s0 Su177 H locs → hp_mono Sa177 Su177 → W p l e ({ frames := 6, cells := 0, slots := 0, locals := 384 } : Room) s m args below meth c H locs 0 0 (MQ below (hp_Qa B D s0 (fun r S' => hp_mono Si S' ∧ Q r S')) args s 0 0 (fun q => B < q)) (F0 m 177 ls []) := by
      intro N
      induction N with
      | zero =>
        intro v2 Su177 H locs ls hN
        exact absurd hN (Nat.not_lt_zero _)
      | succ N ih177 =>
        intro v2 Su177 H locs ls hN hI hl hR ms177
        have h := hst v2 Su177 ms177 hI
        have hm := hp_mono.tr hm ms177
        obtain ⟨K177, hKe177⟩ : ∃ K : Int32 → hp_St → Prop, K = (fun v2' Sk => I177 v2' Sk ∧ μ177 v2' Sk < μ177 v2 Su177) := ⟨_, rfl⟩
        rw [← hKe177] at h
        have hK177 : ∀ (v2' : Int32) (Sk : hp_St) (H : Heap) (locs : List Loc) (ls : Array Slot), K177 v2' Sk → lv_has ls 4 [(0, hp_v B o), (2, .int (v2'))] → hp_S B D s0 Sk H locs → hp_mono Sa177 Sk → W p l e ({ frames := 6, cells := 0, slots := 0, locals := 384 } : Room) s m args below meth c H locs 0 0 (MQ below (hp_Qa B D s0 (fun r S' => hp_mono Si S' ∧ Q r S')) args s 0 0 (fun q => B < q)) (F0 m 177 ls []) := by
          intro v2' Sk H locs ls hI hl hR ms
          rw [hKe177] at hI
          exact ih177 v2' Sk H locs ls (Nat.lt_of_lt_of_le hI.2 (Nat.le_of_lt_succ hN)) hI.1 hl hR ms
        have b217 : ∀ (v2 : Int32) (S : hp_St) (H : Heap) (locs : List Loc) (ls : Array Slot), wb_X4_know_217 o a1 v2 S K177 Q → lv_has ls 4 [(0, hp_v B o), (2, .int v2)] → hp_S B D s0 S H locs → hp_mono Si S → hp_mono Sa177 S → W p l e ({ frames := 6, cells := 0, slots := 0, locals := 384 } : Room) s m args below meth c H locs 0 0 (MQ below (hp_Qa B D s0 (fun r S' => hp_mono Si S' ∧ Q r S')) args s 0 0 (fun q => B < q)) (F0 m 217 ls []) := by
          intro v2 S H locs ls h hl hR hm ms177
          unfold wb_X4_know_217 at h
          refine hp_iinc E hl (v2 + (1 : Int32)) 1 (lv' := [(0, hp_v B o)]) dX4_know_217 (rfl : 217 + 3 = 220) rfl (by first | rfl | (congr 1)) (by decide) rfl (fun ls hl => ?_)
          refine hp_goto E (tgt := 177) dX4_know_220 (by decide) ?_
          exact hK177 _ _ _ _ _ h (lv_sub hl [1, 0] rfl) hR ms177
        unfold wb_X4_know_177 at h
        refine hp_iload_n E hl 2 rfl 1 rfl dX4_know_177 (rfl : 177 + 1 = 178) ?_
        refine hp_aload_n E hl 0 rfl 0 rfl dX4_know_178 (rfl : 178 + 1 = 179) ?_
        refine hp_getR E hR in_X4 (hp_mono.c hm hc0) rfl 4 (Nat.le_of_ble_eq_true rfl) rfl q237 (fun _ h => h) dX4_know_179 (rfl : 179 + 3 = 182) ?_
        obtain ⟨hc17701, h⟩ := h
        refine hp_getRN E hR in_X1 hc17701 rfl 10 (Nat.le_of_ble_eq_true rfl) rfl q330 (fun _ h => h) dX4_know_182 (rfl : 182 + 3 = 185) ?_
        obtain ⟨hc17702, h⟩ := h
        refine hp_fi (hp_rV E hR hl (m_J2_size G _ _ _ hc17702 h) hc17702 (ci := 16) rfl rfl q950 q545 q546 q78 q547 nf_J2_size ⟨Nat.le_of_ble_eq_true rfl, Nat.le_of_ble_eq_true rfl⟩ (rest := [.int v2]) rfl (Nat.le_of_ble_eq_true rfl) dX4_know_185 ⟨Nat.le_of_ble_eq_true rfl, Nat.le_of_ble_eq_true rfl⟩) hR (rfl : 185 + 3 = 188) (fun z17703 Sx H locs hq hR => ?_)
        obtain ⟨hSx, h⟩ := hq
        rw [hSx] at hR
        refine hp_icmp_ge E dX4_know_188 (rfl : 188 + 3 = 191) (tgt := 223) (by decide) (fun hb => ?_) (fun hb => ?_)
        · have h := h.1 hb
          refine hp_aload_n E hl 0 rfl 0 rfl dX4_know_191 (rfl : 191 + 1 = 192) ?_
          refine hp_iload_n E hl 2 rfl 1 rfl dX4_know_192 (rfl : 192 + 1 = 193) ?_
          refine hp_fi (hp_rV E hR hl (m_X4_counts G _ _ _ _ (hp_mono.c hm hc0) h) (hp_mono.c hm hc0) (ci := 3) rfl rfl q962 q963 q964 q79 q965 nf_X4_counts ⟨Nat.le_of_ble_eq_true rfl, Nat.le_of_ble_eq_true rfl⟩ (rest := []) rfl (Nat.le_of_ble_eq_true rfl) dX4_know_193 ⟨Nat.le_of_ble_eq_true rfl, Nat.le_of_ble_eq_true rfl⟩) hR (rfl : 193 + 3 = 196) (fun z17704 Sx H locs hq hR => ?_)
          obtain ⟨hSx, h⟩ := hq
          rw [hSx] at hR
          refine hp_if_eq E dX4_know_196 (rfl : 196 + 3 = 199) (tgt := 217) (by decide) (fun hb => ?_) (fun hb => ?_)
          · have h := h.1 hb
            exact b217 _ _ _ _ _ h hl hR hm ms177
          · have h := h.2 hb
            refine hp_aload_n E hl 0 rfl 0 rfl dX4_know_199 (rfl : 199 + 1 = 200) ?_
            refine hp_getR E hR in_X4 (hp_mono.c hm hc0) rfl 4 (Nat.le_of_ble_eq_true rfl) rfl q237 (fun _ h => h) dX4_know_200 (rfl : 200 + 3 = 203) ?_
            refine hp_getRN E hR in_X1 hc17701 rfl 10 (Nat.le_of_ble_eq_true rfl) rfl q330 (fun _ h => h) dX4_know_203 (rfl : 203 + 3 = 206) ?_
            refine hp_iload_n E hl 2 rfl 1 rfl dX4_know_206 (rfl : 206 + 1 = 207) ?_
            refine hp_fa (hp_rV E hR hl (m_J2_get G _ _ _ _ hc17702 h) hc17702 (ci := 16) rfl rfl q951 q728 q729 q78 q730 nf_J2_get ⟨Nat.le_of_ble_eq_true rfl, Nat.le_of_ble_eq_true rfl⟩ (rest := []) rfl (Nat.le_of_ble_eq_true rfl) dX4_know_207 ⟨Nat.le_of_ble_eq_true rfl, Nat.le_of_ble_eq_true rfl⟩) hR (rfl : 207 + 3 = 210) (fun z17705 Sx H locs hq hR => ?_)
            obtain ⟨hSx, h⟩ := hq
            rw [hSx] at hR
            obtain ⟨hc17706, h⟩ := h
            refine hp_or3 hc17706 (fun hc kk => hp_castY E hR hc (ci := 13) rfl q952 q1725 dX4_know_210 (rfl : 210 + 3 = 213) kk) (fun hc kk => hp_castY E hR hc (ci := 14) rfl q952 q1726 dX4_know_210 (rfl : 210 + 3 = 213) kk) (fun hc kk => hp_castY E hR hc (ci := 15) rfl q952 q1727 dX4_know_210 (rfl : 210 + 3 = 213) kk) ?_
            refine hp_aload_n E hl 0 rfl 0 rfl dX4_know_213 (rfl : 213 + 1 = 214) ?_
            (try unfold hp_virt at h)
            refine hp_fv (hp_el3 hc17706 (fun hc => hp_rU E hR hl (m_X16_tell G _ _ _ _ hc (h.1 hc)) hc (ci := 13) rfl q966 q970 q969 q102 q971 q968 q967 q976 nf_X14_tell ⟨Nat.le_of_ble_eq_true rfl, Nat.le_of_ble_eq_true rfl⟩ (rest := []) rfl (Nat.le_of_ble_eq_true rfl) dX4_know_214 ⟨Nat.le_of_ble_eq_true rfl, Nat.le_of_ble_eq_true rfl⟩) (fun hc => hp_rU E hR hl (m_X17_tell G _ _ _ _ hc (h.2.1 hc)) hc (ci := 14) rfl q966 q973 q972 q103 q974 q968 q967 q976 nf_X14_tell ⟨Nat.le_of_ble_eq_true rfl, Nat.le_of_ble_eq_true rfl⟩ (rest := []) rfl (Nat.le_of_ble_eq_true rfl) dX4_know_214 ⟨Nat.le_of_ble_eq_true rfl, Nat.le_of_ble_eq_true rfl⟩) (fun hc => hp_rU E hR hl (m_X14_tell G _ _ _ _ hc (h.2.2 hc)) hc (ci := 15) rfl q966 q967 q975 q100 q976 q968 q967 q976 nf_X14_tell ⟨Nat.le_of_ble_eq_true rfl, Nat.le_of_ble_eq_true rfl⟩ (rest := []) rfl (Nat.le_of_ble_eq_true rfl) dX4_know_214 ⟨Nat.le_of_ble_eq_true rfl, Nat.le_of_ble_eq_true rfl⟩)) hR (rfl : 214 + 3 = 217) (fun S17707 H locs hq hR => ?_)
            obtain ⟨hm17708, h⟩ := hq
            have h := h hm17708
            have hm := hp_mono.tr hm hm17708
            have ms177 := hp_mono.tr ms177 hm17708
            exact b217 _ _ _ _ _ h hl hR hm ms177
        · have h := h.2 hb
          refine hp_aload_n E hl 0 rfl 0 rfl dX4_know_223 (rfl : 223 + 1 = 224) ?_
          exact hp_aret E hR (Or.inl ⟨_, rfl⟩) ⟨hm, h⟩ (Nat.le_of_ble_eq_true rfl) (Nat.le_of_ble_eq_true rfl) dX4_know_224
    exact key177 (μ177 v2 Sa177 + 1) v2 _ H locs ls (Nat.lt_succ_self _) hI hl hR hp_mono.rf
  have b91 : ∀ (v2 : Int32) (S : hp_St) (H : Heap) (locs : List Loc) (ls : Array Slot), wl_X4_know_91 o a1 v2 S Q → lv_has ls 4 [(0, hp_v B o), (1, .int a1), (2, .int v2)] → hp_S B D s0 S H locs → hp_mono Si S → W p l e ({ frames := 6, cells := 0, slots := 0, locals := 384 } : Room) s m args below meth c H locs 0 0 (MQ below (hp_Qa B D s0 (fun r S' => hp_mono Si S' ∧ Q r S')) args s 0 0 (fun q => B < q)) (F0 m 91 ls []) := by
    intro v2 S H locs ls h hl hR hm
    obtain ⟨I91, μ91, hI, hst⟩ := h
    obtain ⟨Sa91, eSa91⟩ : ∃ x, x = S := ⟨_, rfl⟩
    subst eSa91
    have key91 : ∀ (N : Nat) (v2 : Int32) (Su91 : hp_St) (H : Heap) (locs : List Loc) (ls : Array Slot), μ91 v2 Su91 < N → I91 v2 Su91 → lv_has ls 4 [(0, hp_v B o), (1, .int a1), (2, .int v2)] → hp_S B D s0 Su91 H locs → hp_mono Sa91 Su91 → W p l e ({ frames := 6, cells := 0, slots := 0, locals := 384 } : Room) s m args below meth c H locs 0 0 (MQ below (hp_Qa B D s0 (fun r S' => hp_mono Si S' ∧ Q r S')) args s 0 0 (fun q => B < q)) (F0 m 91 ls []) := by
      intro N
      induction N with
      | zero =>
        intro v2 Su91 H locs ls hN
        exact absurd hN (Nat.not_lt_zero _)
      | succ N ih91 =>
        intro v2 Su91 H locs ls hN hI hl hR ms91
        have h := hst v2 Su91 ms91 hI
        have hm := hp_mono.tr hm ms91
        obtain ⟨K91, hKe91⟩ : ∃ K : Int32 → hp_St → Prop, K = (fun v2' Sk => I91 v2' Sk ∧ μ91 v2' Sk < μ91 v2 Su91) := ⟨_, rfl⟩
        rw [← hKe91] at h
        have hK91 : ∀ (v2' : Int32) (Sk : hp_St) (H : Heap) (locs : List Loc) (ls : Array Slot), K91 v2' Sk → lv_has ls 4 [(0, hp_v B o), (1, .int a1), (2, .int (v2'))] → hp_S B D s0 Sk H locs → hp_mono Sa91 Sk → W p l e ({ frames := 6, cells := 0, slots := 0, locals := 384 } : Room) s m args below meth c H locs 0 0 (MQ below (hp_Qa B D s0 (fun r S' => hp_mono Si S' ∧ Q r S')) args s 0 0 (fun q => B < q)) (F0 m 91 ls []) := by
          intro v2' Sk H locs ls hI hl hR ms
          rw [hKe91] at hI
          exact ih91 v2' Sk H locs ls (Nat.lt_of_lt_of_le hI.2 (Nat.le_of_lt_succ hN)) hI.1 hl hR ms
        have b169 : ∀ (v2 : Int32) (S : hp_St) (H : Heap) (locs : List Loc) (ls : Array Slot), wb_X4_know_169 o a1 v2 S K91 Q → lv_has ls 4 [(0, hp_v B o), (1, .int a1), (2, .int v2)] → hp_S B D s0 S H locs → hp_mono Si S → hp_mono Sa91 S → W p l e ({ frames := 6, cells := 0, slots := 0, locals := 384 } : Room) s m args below meth c H locs 0 0 (MQ below (hp_Qa B D s0 (fun r S' => hp_mono Si S' ∧ Q r S')) args s 0 0 (fun q => B < q)) (F0 m 169 ls []) := by
          intro v2 S H locs ls h hl hR hm ms91
          unfold wb_X4_know_169 at h
          refine hp_iinc E hl (v2 + (-1 : Int32)) 2 (lv' := [(0, hp_v B o), (1, .int a1)]) dX4_know_169 (rfl : 169 + 3 = 172) rfl (by first | rfl | (congr 1)) (by decide) rfl (fun ls hl => ?_)
          refine hp_goto E (tgt := 91) dX4_know_172 (by decide) ?_
          exact hK91 _ _ _ _ _ h (lv_sub hl [1, 2, 0] rfl) hR ms91
        unfold wb_X4_know_91 at h
        refine hp_iload_n E hl 2 rfl 2 rfl dX4_know_91 (rfl : 91 + 1 = 92) ?_
        refine hp_if_lt E dX4_know_92 (rfl : 92 + 3 = 95) (tgt := 175) (by decide) (fun hb => ?_) (fun hb => ?_)
        · have h := h.1 hb
          refine hp_iconst E (0 : Int32) (by decide) dX4_know_175 (rfl : 175 + 1 = 176) ?_
          refine hp_istore_n E hl 2 rfl (lv' := [(0, hp_v B o), (1, .int a1)]) dX4_know_176 (rfl : 176 + 1 = 177) (by decide) rfl (fun ls hl => ?_)
          exact b177 _ _ _ _ _ h (lv_sub hl [1, 0] rfl) hR hm
        · have h := h.2 hb
          refine hp_aload_n E hl 0 rfl 0 rfl dX4_know_95 (rfl : 95 + 1 = 96) ?_
          refine hp_getR E hR in_X4 (hp_mono.c hm hc0) rfl 4 (Nat.le_of_ble_eq_true rfl) rfl q237 (fun _ h => h) dX4_know_96 (rfl : 96 + 3 = 99) ?_
          obtain ⟨hc9101, h⟩ := h
          refine hp_getRN E hR in_X1 hc9101 rfl 10 (Nat.le_of_ble_eq_true rfl) rfl q330 (fun _ h => h) dX4_know_99 (rfl : 99 + 3 = 102) ?_
          refine hp_iload_n E hl 2 rfl 2 rfl dX4_know_102 (rfl : 102 + 1 = 103) ?_
          obtain ⟨hc9102, h⟩ := h
          refine hp_fa (hp_rV E hR hl (m_J2_get G _ _ _ _ hc9102 h) hc9102 (ci := 16) rfl rfl q951 q728 q729 q78 q730 nf_J2_get ⟨Nat.le_of_ble_eq_true rfl, Nat.le_of_ble_eq_true rfl⟩ (rest := []) rfl (Nat.le_of_ble_eq_true rfl) dX4_know_103 ⟨Nat.le_of_ble_eq_true rfl, Nat.le_of_ble_eq_true rfl⟩) hR (rfl : 103 + 3 = 106) (fun z9103 Sx H locs hq hR => ?_)
          obtain ⟨hSx, h⟩ := hq
          rw [hSx] at hR
          obtain ⟨hc9104, h⟩ := h
          refine hp_or3 hc9104 (fun hc kk => hp_castY E hR hc (ci := 13) rfl q952 q1725 dX4_know_106 (rfl : 106 + 3 = 109) kk) (fun hc kk => hp_castY E hR hc (ci := 14) rfl q952 q1726 dX4_know_106 (rfl : 106 + 3 = 109) kk) (fun hc kk => hp_castY E hR hc (ci := 15) rfl q952 q1727 dX4_know_106 (rfl : 106 + 3 = 109) kk) ?_
          refine hp_or3 hc9104 (fun hc kk => hp_getI E hR in_N16 hc rfl 0 (Nat.le_of_ble_eq_true rfl) rfl q909 (fun _ h => h) dX4_know_109 (rfl : 109 + 3 = 112) kk) (fun hc kk => hp_getI E hR in_N17 hc rfl 0 (Nat.le_of_ble_eq_true rfl) rfl q909 (fun _ h => h) dX4_know_109 (rfl : 109 + 3 = 112) kk) (fun hc kk => hp_getI E hR in_X18 hc rfl 0 (Nat.le_of_ble_eq_true rfl) rfl q909 (fun _ h => h) dX4_know_109 (rfl : 109 + 3 = 112) kk) ?_
          refine hp_iload_n E hl 1 rfl 1 rfl dX4_know_112 (rfl : 112 + 1 = 113) ?_
          refine hp_icmp_gt E dX4_know_113 (rfl : 113 + 3 = 116) (tgt := 169) (by decide) (fun hb => ?_) (fun hb => ?_)
          · have h := h.1 hb
            refine hp_aload_n E hl 0 rfl 0 rfl dX4_know_116 (rfl : 116 + 1 = 117) ?_
            refine hp_getR E hR in_X4 (hp_mono.c hm hc0) rfl 2 (Nat.le_of_ble_eq_true rfl) rfl q234 (fun _ h => h) dX4_know_117 (rfl : 117 + 3 = 120) ?_
            refine hp_iload_n E hl 2 rfl 2 rfl dX4_know_120 (rfl : 120 + 1 = 121) ?_
            obtain ⟨hc9105, h⟩ := h
            obtain ⟨hi9106, h⟩ := h
            refine hp_zald E hR hc9105 hi9106 dX4_know_121 (rfl : 121 + 1 = 122) ?_
            refine hp_if_ne E dX4_know_122 (rfl : 122 + 3 = 125) (tgt := 169) (by decide) (fun hb => ?_) (fun hb => ?_)
            · have h := h.1 hb
              refine hp_aload_n E hl 0 rfl 0 rfl dX4_know_125 (rfl : 125 + 1 = 126) ?_
              refine hp_getR E hR in_X4 (hp_mono.c hm hc0) rfl 4 (Nat.le_of_ble_eq_true rfl) rfl q237 (fun _ h => h) dX4_know_126 (rfl : 126 + 3 = 129) ?_
              refine hp_getRN E hR in_X1 hc9101 rfl 10 (Nat.le_of_ble_eq_true rfl) rfl q330 (fun _ h => h) dX4_know_129 (rfl : 129 + 3 = 132) ?_
              refine hp_iload_n E hl 2 rfl 2 rfl dX4_know_132 (rfl : 132 + 1 = 133) ?_
              refine hp_fa (hp_rV E hR hl (m_J2_get G _ _ _ _ hc9102 h) hc9102 (ci := 16) rfl rfl q951 q728 q729 q78 q730 nf_J2_get ⟨Nat.le_of_ble_eq_true rfl, Nat.le_of_ble_eq_true rfl⟩ (rest := []) rfl (Nat.le_of_ble_eq_true rfl) dX4_know_133 ⟨Nat.le_of_ble_eq_true rfl, Nat.le_of_ble_eq_true rfl⟩) hR (rfl : 133 + 3 = 136) (fun z9107 Sx H locs hq hR => ?_)
              obtain ⟨hSx, h⟩ := hq
              rw [hSx] at hR
              obtain ⟨hc9108, h⟩ := h
              refine hp_or3 hc9108 (fun hc kk => hp_castY E hR hc (ci := 13) rfl q952 q1725 dX4_know_136 (rfl : 136 + 3 = 139) kk) (fun hc kk => hp_castY E hR hc (ci := 14) rfl q952 q1726 dX4_know_136 (rfl : 136 + 3 = 139) kk) (fun hc kk => hp_castY E hR hc (ci := 15) rfl q952 q1727 dX4_know_136 (rfl : 136 + 3 = 139) kk) ?_
              (try unfold hp_virt at h)
              refine hp_fi (hp_el3 hc9108 (fun hc => hp_rU E hR hl (m_X14_struck G _ _ _ (Or.inl hc) (h.1 hc)) hc (ci := 13) rfl q953 q954 q956 q100 q961 q955 q954 q961 nf_X14_struck ⟨Nat.le_of_ble_eq_true rfl, Nat.le_of_ble_eq_true rfl⟩ (rest := []) rfl (Nat.le_of_ble_eq_true rfl) dX4_know_139 ⟨Nat.le_of_ble_eq_true rfl, Nat.le_of_ble_eq_true rfl⟩) (fun hc => hp_rU E hR hl (m_X14_struck G _ _ _ (Or.inr hc) (h.2.1 hc)) hc (ci := 14) rfl q953 q954 q957 q100 q961 q955 q954 q961 nf_X14_struck ⟨Nat.le_of_ble_eq_true rfl, Nat.le_of_ble_eq_true rfl⟩ (rest := []) rfl (Nat.le_of_ble_eq_true rfl) dX4_know_139 ⟨Nat.le_of_ble_eq_true rfl, Nat.le_of_ble_eq_true rfl⟩) (fun hc => hp_rU E hR hl (m_X18_struck G _ _ _ hc (h.2.2 hc)) hc (ci := 15) rfl q953 q959 q958 q104 q960 q955 q954 q961 nf_X14_struck ⟨Nat.le_of_ble_eq_true rfl, Nat.le_of_ble_eq_true rfl⟩ (rest := []) rfl (Nat.le_of_ble_eq_true rfl) dX4_know_139 ⟨Nat.le_of_ble_eq_true rfl, Nat.le_of_ble_eq_true rfl⟩)) hR (rfl : 139 + 3 = 142) (fun z9109 Sx H locs hq hR => ?_)
              obtain ⟨hSx, h⟩ := hq
              rw [hSx] at hR
              refine hp_iconst E (-1 : Int32) (by decide) dX4_know_142 (rfl : 142 + 1 = 143) ?_
              refine hp_icmp_eq E dX4_know_143 (rfl : 143 + 3 = 146) (tgt := 169) (by decide) (fun hb => ?_) (fun hb => ?_)
              · have h := h.1 hb
                exact b169 _ _ _ _ _ h hl hR hm ms91
              · have h := h.2 hb
                refine hp_aload_n E hl 0 rfl 0 rfl dX4_know_146 (rfl : 146 + 1 = 147) ?_
                refine hp_getR E hR in_X4 (hp_mono.c hm hc0) rfl 2 (Nat.le_of_ble_eq_true rfl) rfl q234 (fun _ h => h) dX4_know_147 (rfl : 147 + 3 = 150) ?_
                refine hp_aload_n E hl 0 rfl 0 rfl dX4_know_150 (rfl : 150 + 1 = 151) ?_
                refine hp_getR E hR in_X4 (hp_mono.c hm hc0) rfl 4 (Nat.le_of_ble_eq_true rfl) rfl q237 (fun _ h => h) dX4_know_151 (rfl : 151 + 3 = 154) ?_
                refine hp_getRN E hR in_X1 hc9101 rfl 10 (Nat.le_of_ble_eq_true rfl) rfl q330 (fun _ h => h) dX4_know_154 (rfl : 154 + 3 = 157) ?_
                refine hp_iload_n E hl 2 rfl 2 rfl dX4_know_157 (rfl : 157 + 1 = 158) ?_
                refine hp_fa (hp_rV E hR hl (m_J2_get G _ _ _ _ hc9102 h) hc9102 (ci := 16) rfl rfl q951 q728 q729 q78 q730 nf_J2_get ⟨Nat.le_of_ble_eq_true rfl, Nat.le_of_ble_eq_true rfl⟩ (rest := [hp_v B (st_R Su91 o 2)]) rfl (Nat.le_of_ble_eq_true rfl) dX4_know_158 ⟨Nat.le_of_ble_eq_true rfl, Nat.le_of_ble_eq_true rfl⟩) hR (rfl : 158 + 3 = 161) (fun z9111 Sx H locs hq hR => ?_)
                obtain ⟨hSx, h⟩ := hq
                rw [hSx] at hR
                obtain ⟨hc9112, h⟩ := h
                refine hp_or3 hc9112 (fun hc kk => hp_castY E hR hc (ci := 13) rfl q952 q1725 dX4_know_161 (rfl : 161 + 3 = 164) kk) (fun hc kk => hp_castY E hR hc (ci := 14) rfl q952 q1726 dX4_know_161 (rfl : 161 + 3 = 164) kk) (fun hc kk => hp_castY E hR hc (ci := 15) rfl q952 q1727 dX4_know_161 (rfl : 161 + 3 = 164) kk) ?_
                (try unfold hp_virt at h)
                refine hp_fi (hp_el3 hc9112 (fun hc => hp_rU E hR hl (m_X14_struck G _ _ _ (Or.inl hc) (h.1 hc)) hc (ci := 13) rfl q953 q954 q956 q100 q961 q955 q954 q961 nf_X14_struck ⟨Nat.le_of_ble_eq_true rfl, Nat.le_of_ble_eq_true rfl⟩ (rest := [hp_v B (st_R Su91 o 2)]) rfl (Nat.le_of_ble_eq_true rfl) dX4_know_164 ⟨Nat.le_of_ble_eq_true rfl, Nat.le_of_ble_eq_true rfl⟩) (fun hc => hp_rU E hR hl (m_X14_struck G _ _ _ (Or.inr hc) (h.2.1 hc)) hc (ci := 14) rfl q953 q954 q957 q100 q961 q955 q954 q961 nf_X14_struck ⟨Nat.le_of_ble_eq_true rfl, Nat.le_of_ble_eq_true rfl⟩ (rest := [hp_v B (st_R Su91 o 2)]) rfl (Nat.le_of_ble_eq_true rfl) dX4_know_164 ⟨Nat.le_of_ble_eq_true rfl, Nat.le_of_ble_eq_true rfl⟩) (fun hc => hp_rU E hR hl (m_X18_struck G _ _ _ hc (h.2.2 hc)) hc (ci := 15) rfl q953 q959 q958 q104 q960 q955 q954 q961 nf_X14_struck ⟨Nat.le_of_ble_eq_true rfl, Nat.le_of_ble_eq_true rfl⟩ (rest := [hp_v B (st_R Su91 o 2)]) rfl (Nat.le_of_ble_eq_true rfl) dX4_know_164 ⟨Nat.le_of_ble_eq_true rfl, Nat.le_of_ble_eq_true rfl⟩)) hR (rfl : 164 + 3 = 167) (fun z9113 Sx H locs hq hR => ?_)
                obtain ⟨hSx, h⟩ := hq
                rw [hSx] at hR
                refine hp_iconst E (1 : Int32) (by decide) dX4_know_167 (rfl : 167 + 1 = 168) ?_
                obtain ⟨hi9115, h⟩ := h
                refine hx_zast E hR hc9105 hi9115 (Or.inr rfl) dX4_know_168 (rfl : 168 + 1 = 169) (fun S9116 H locs e9118 hm9117 hR => ?_)
                have h := h S9116 e9118
                have hm := hp_mono.tr hm hm9117
                have ms91 := hp_mono.tr ms91 hm9117
                exact b169 _ _ _ _ _ h hl hR hm ms91
            · have h := h.2 hb
              exact b169 _ _ _ _ _ h hl hR hm ms91
          · have h := h.2 hb
            exact b169 _ _ _ _ _ h hl hR hm ms91
    exact key91 (μ91 v2 Sa91 + 1) v2 _ H locs ls (Nat.lt_succ_self _) hI hl hR hp_mono.rf
  have b51 : ∀ (v2 : Int32) (S : hp_St) (H : Heap) (locs : List Loc) (ls : Array Slot), wl_X4_know_51 o a1 v2 S Q → lv_has ls 4 [(0, hp_v B o), (1, .int a1), (2, .int v2)] → hp_S B D s0 S H locs → hp_mono Si S → W p l e ({ frames := 6, cells := 0, slots := 0, locals := 384 } : Room) s m args below meth c H locs 0 0 (MQ below (hp_Qa B D s0 (fun r S' => hp_mono Si S' ∧ Q r S')) args s 0 0 (fun q => B < q)) (F0 m 51 ls []) := by
    intro v2 S H locs ls h hl hR hm
    obtain ⟨I51, μ51, hI, hst⟩ := h
    obtain ⟨Sa51, eSa51⟩ : ∃ x, x = S := ⟨_, rfl⟩
    subst eSa51
    have key51 : ∀ (N : Nat) (v2 : Int32) (Su51 : hp_St) (H : Heap) (locs : List Loc) (ls : Array Slot), μ51 v2 Su51 < N → I51 v2 Su51 → lv_has ls 4 [(0, hp_v B o), (1, .int a1), (2, .int v2)] → hp_S B D s0 Su51 H locs → hp_mono Sa51 Su51 → W p l e ({ frames := 6, cells := 0, slots := 0, locals := 384 } : Room) s m args below meth c H locs 0 0 (MQ below (hp_Qa B D s0 (fun r S' => hp_mono Si S' ∧ Q r S')) args s 0 0 (fun q => B < q)) (F0 m 51 ls []) := by
      intro N
      induction N with
      | zero =>
        intro v2 Su51 H locs ls hN
        exact absurd hN (Nat.not_lt_zero _)
      | succ N ih51 =>
        intro v2 Su51 H locs ls hN hI hl hR ms51
        have h := hst v2 Su51 ms51 hI
        have hm := hp_mono.tr hm ms51
        obtain ⟨K51, hKe51⟩ : ∃ K : Int32 → hp_St → Prop, K = (fun v2' Sk => I51 v2' Sk ∧ μ51 v2' Sk < μ51 v2 Su51) := ⟨_, rfl⟩
        rw [← hKe51] at h
        have hK51 : ∀ (v2' : Int32) (Sk : hp_St) (H : Heap) (locs : List Loc) (ls : Array Slot), K51 v2' Sk → lv_has ls 4 [(0, hp_v B o), (1, .int a1), (2, .int (v2'))] → hp_S B D s0 Sk H locs → hp_mono Sa51 Sk → W p l e ({ frames := 6, cells := 0, slots := 0, locals := 384 } : Room) s m args below meth c H locs 0 0 (MQ below (hp_Qa B D s0 (fun r S' => hp_mono Si S' ∧ Q r S')) args s 0 0 (fun q => B < q)) (F0 m 51 ls []) := by
          intro v2' Sk H locs ls hI hl hR ms
          rw [hKe51] at hI
          exact ih51 v2' Sk H locs ls (Nat.lt_of_lt_of_le hI.2 (Nat.le_of_lt_succ hN)) hI.1 hl hR ms
        unfold wb_X4_know_51 at h
        refine hp_iload_n E hl 2 rfl 2 rfl dX4_know_51 (rfl : 51 + 1 = 52) ?_
        refine hp_aload_n E hl 0 rfl 0 rfl dX4_know_52 (rfl : 52 + 1 = 53) ?_
        refine hp_getR E hR in_X4 (hp_mono.c hm hc0) rfl 4 (Nat.le_of_ble_eq_true rfl) rfl q237 (fun _ h => h) dX4_know_53 (rfl : 53 + 3 = 56) ?_
        obtain ⟨hc5101, h⟩ := h
        refine hp_getRN E hR in_X1 hc5101 rfl 10 (Nat.le_of_ble_eq_true rfl) rfl q330 (fun _ h => h) dX4_know_56 (rfl : 56 + 3 = 59) ?_
        obtain ⟨hc5102, h⟩ := h
        refine hp_fi (hp_rV E hR hl (m_J2_size G _ _ _ hc5102 h) hc5102 (ci := 16) rfl rfl q950 q545 q546 q78 q547 nf_J2_size ⟨Nat.le_of_ble_eq_true rfl, Nat.le_of_ble_eq_true rfl⟩ (rest := [.int v2]) rfl (Nat.le_of_ble_eq_true rfl) dX4_know_59 ⟨Nat.le_of_ble_eq_true rfl, Nat.le_of_ble_eq_true rfl⟩) hR (rfl : 59 + 3 = 62) (fun z5103 Sx H locs hq hR => ?_)
        obtain ⟨hSx, h⟩ := hq
        rw [hSx] at hR
        refine hp_icmp_ge E dX4_know_62 (rfl : 62 + 3 = 65) (tgt := 78) (by decide) (fun hb => ?_) (fun hb => ?_)
        · have h := h.1 hb
          refine hp_aload_n E hl 0 rfl 0 rfl dX4_know_65 (rfl : 65 + 1 = 66) ?_
          refine hp_getR E hR in_X4 (hp_mono.c hm hc0) rfl 2 (Nat.le_of_ble_eq_true rfl) rfl q234 (fun _ h => h) dX4_know_66 (rfl : 66 + 3 = 69) ?_
          refine hp_iload_n E hl 2 rfl 2 rfl dX4_know_69 (rfl : 69 + 1 = 70) ?_
          refine hp_iconst E (0 : Int32) (by decide) dX4_know_70 (rfl : 70 + 1 = 71) ?_
          obtain ⟨hc5104, h⟩ := h
          obtain ⟨hi5105, h⟩ := h
          refine hx_zast E hR hc5104 hi5105 (Or.inl rfl) dX4_know_71 (rfl : 71 + 1 = 72) (fun S5106 H locs e5108 hm5107 hR => ?_)
          have h := h S5106 e5108
          have hm := hp_mono.tr hm hm5107
          have ms51 := hp_mono.tr ms51 hm5107
          refine hp_iinc E hl (v2 + (1 : Int32)) 2 (lv' := [(0, hp_v B o), (1, .int a1)]) dX4_know_72 (rfl : 72 + 3 = 75) rfl (by first | rfl | (congr 1)) (by decide) rfl (fun ls hl => ?_)
          refine hp_goto E (tgt := 51) dX4_know_75 (by decide) ?_
          exact hK51 _ _ _ _ _ h (lv_sub hl [1, 2, 0] rfl) hR ms51
        · have h := h.2 hb
          refine hp_aload_n E hl 0 rfl 0 rfl dX4_know_78 (rfl : 78 + 1 = 79) ?_
          refine hp_getR E hR in_X4 (hp_mono.c hm hc0) rfl 4 (Nat.le_of_ble_eq_true rfl) rfl q237 (fun _ h => h) dX4_know_79 (rfl : 79 + 3 = 82) ?_
          refine hp_getRN E hR in_X1 hc5101 rfl 10 (Nat.le_of_ble_eq_true rfl) rfl q330 (fun _ h => h) dX4_know_82 (rfl : 82 + 3 = 85) ?_
          refine hp_fi (hp_rV E hR hl (m_J2_size G _ _ _ hc5102 h) hc5102 (ci := 16) rfl rfl q950 q545 q546 q78 q547 nf_J2_size ⟨Nat.le_of_ble_eq_true rfl, Nat.le_of_ble_eq_true rfl⟩ (rest := []) rfl (Nat.le_of_ble_eq_true rfl) dX4_know_85 ⟨Nat.le_of_ble_eq_true rfl, Nat.le_of_ble_eq_true rfl⟩) hR (rfl : 85 + 3 = 88) (fun z5109 Sx H locs hq hR => ?_)
          obtain ⟨hSx, h⟩ := hq
          rw [hSx] at hR
          refine hp_iconst E (1 : Int32) (by decide) dX4_know_88 (rfl : 88 + 1 = 89) ?_
          refine hp_isub E dX4_know_89 (rfl : 89 + 1 = 90) ?_
          refine hp_istore_n E hl 2 rfl (lv' := [(0, hp_v B o), (1, .int a1)]) dX4_know_90 (rfl : 90 + 1 = 91) (by decide) rfl (fun ls hl => ?_)
          exact b91 _ _ _ _ _ h (lv_sub hl [1, 2, 0] rfl) hR hm
    exact key51 (μ51 v2 Sa51 + 1) v2 _ H locs ls (Nat.lt_succ_self _) hI hl hR hp_mono.rf
  have b7 : ∀ (v2 : Int32) (S : hp_St) (H : Heap) (locs : List Loc) (ls : Array Slot), wl_X4_know_7 o a1 v2 S Q → lv_has ls 4 [(0, hp_v B o), (1, .int a1), (2, .int v2)] → hp_S B D s0 S H locs → hp_mono Si S → W p l e ({ frames := 6, cells := 0, slots := 0, locals := 384 } : Room) s m args below meth c H locs 0 0 (MQ below (hp_Qa B D s0 (fun r S' => hp_mono Si S' ∧ Q r S')) args s 0 0 (fun q => B < q)) (F0 m 7 ls []) := by
    intro v2 S H locs ls h hl hR hm
    obtain ⟨I7, μ7, hI, hst⟩ := h
    obtain ⟨Sa7, eSa7⟩ : ∃ x, x = S := ⟨_, rfl⟩
    subst eSa7
    have key7 : ∀ (N : Nat) (v2 : Int32) (Su7 : hp_St) (H : Heap) (locs : List Loc) (ls : Array Slot), μ7 v2 Su7 < N → I7 v2 Su7 → lv_has ls 4 [(0, hp_v B o), (1, .int a1), (2, .int v2)] → hp_S B D s0 Su7 H locs → hp_mono Sa7 Su7 → W p l e ({ frames := 6, cells := 0, slots := 0, locals := 384 } : Room) s m args below meth c H locs 0 0 (MQ below (hp_Qa B D s0 (fun r S' => hp_mono Si S' ∧ Q r S')) args s 0 0 (fun q => B < q)) (F0 m 7 ls []) := by
      intro N
      induction N with
      | zero =>
        intro v2 Su7 H locs ls hN
        exact absurd hN (Nat.not_lt_zero _)
      | succ N ih7 =>
        intro v2 Su7 H locs ls hN hI hl hR ms7
        have h := hst v2 Su7 ms7 hI
        have hm := hp_mono.tr hm ms7
        obtain ⟨K7, hKe7⟩ : ∃ K : Int32 → hp_St → Prop, K = (fun v2' Sk => I7 v2' Sk ∧ μ7 v2' Sk < μ7 v2 Su7) := ⟨_, rfl⟩
        rw [← hKe7] at h
        have hK7 : ∀ (v2' : Int32) (Sk : hp_St) (H : Heap) (locs : List Loc) (ls : Array Slot), K7 v2' Sk → lv_has ls 4 [(0, hp_v B o), (1, .int a1), (2, .int (v2'))] → hp_S B D s0 Sk H locs → hp_mono Sa7 Sk → W p l e ({ frames := 6, cells := 0, slots := 0, locals := 384 } : Room) s m args below meth c H locs 0 0 (MQ below (hp_Qa B D s0 (fun r S' => hp_mono Si S' ∧ Q r S')) args s 0 0 (fun q => B < q)) (F0 m 7 ls []) := by
          intro v2' Sk H locs ls hI hl hR ms
          rw [hKe7] at hI
          exact ih7 v2' Sk H locs ls (Nat.lt_of_lt_of_le hI.2 (Nat.le_of_lt_succ hN)) hI.1 hl hR ms
        have b22 : ∀ (v2 : Int32) (v3 : Int32) (S : hp_St) (H : Heap) (locs : List Loc) (ls : Array Slot), wl_X4_know_22 o a1 v2 v3 S K7 Q → lv_has ls 4 [(0, hp_v B o), (1, .int a1), (2, .int v2), (3, .int v3)] → hp_S B D s0 S H locs → hp_mono Si S → hp_mono Sa7 S → W p l e ({ frames := 6, cells := 0, slots := 0, locals := 384 } : Room) s m args below meth c H locs 0 0 (MQ below (hp_Qa B D s0 (fun r S' => hp_mono Si S' ∧ Q r S')) args s 0 0 (fun q => B < q)) (F0 m 22 ls []) := by
          intro v2 v3 S H locs ls h hl hR hm ms7
          obtain ⟨I22, μ22, hI, hst⟩ := h
          obtain ⟨Sa22, eSa22⟩ : ∃ x, x = S := ⟨_, rfl⟩
          subst eSa22
          have key22 : ∀ (N : Nat) (v3 : Int32) (Su22 : hp_St) (H : Heap) (locs : List Loc) (ls : Array Slot), μ22 v3 Su22 < N → I22 v3 Su22 → lv_has ls 4 [(0, hp_v B o), (1, .int a1), (2, .int v2), (3, .int v3)] → hp_S B D s0 Su22 H locs → hp_mono Sa22 Su22 → W p l e ({ frames := 6, cells := 0, slots := 0, locals := 384 } : Room) s m args below meth c H locs 0 0 (MQ below (hp_Qa B D s0 (fun r S' => hp_mono Si S' ∧ Q r S')) args s 0 0 (fun q => B < q)) (F0 m 22 ls []) := by
            intro N
            induction N with
            | zero =>
              intro v3 Su22 H locs ls hN
              exact absurd hN (Nat.not_lt_zero _)
            | succ N ih22 =>
              intro v3 Su22 H locs ls hN hI hl hR ms22
              have h := hst v3 Su22 ms22 hI
              have hm := hp_mono.tr hm ms22
              have ms7 := hp_mono.tr ms7 ms22
              obtain ⟨K22, hKe22⟩ : ∃ K : Int32 → hp_St → Prop, K = (fun v3' Sk => I22 v3' Sk ∧ μ22 v3' Sk < μ22 v3 Su22) := ⟨_, rfl⟩
              rw [← hKe22] at h
              have hK22 : ∀ (v3' : Int32) (Sk : hp_St) (H : Heap) (locs : List Loc) (ls : Array Slot), K22 v3' Sk → lv_has ls 4 [(0, hp_v B o), (1, .int a1), (2, .int v2), (3, .int (v3'))] → hp_S B D s0 Sk H locs → hp_mono Sa22 Sk → W p l e ({ frames := 6, cells := 0, slots := 0, locals := 384 } : Room) s m args below meth c H locs 0 0 (MQ below (hp_Qa B D s0 (fun r S' => hp_mono Si S' ∧ Q r S')) args s 0 0 (fun q => B < q)) (F0 m 22 ls []) := by
                intro v3' Sk H locs ls hI hl hR ms
                rw [hKe22] at hI
                exact ih22 v3' Sk H locs ls (Nat.lt_of_lt_of_le hI.2 (Nat.le_of_lt_succ hN)) hI.1 hl hR ms
              unfold wb_X4_know_22 at h
              refine hp_iload_n E hl 3 rfl 3 rfl dX4_know_22 (rfl : 22 + 1 = 23) ?_
              refine hp_bipush E (80 : Int32) (by decide) dX4_know_23 (rfl : 23 + 2 = 25) ?_
              refine hp_icmp_ge E dX4_know_25 (rfl : 25 + 3 = 28) (tgt := 43) (by decide) (fun hb => ?_) (fun hb => ?_)
              · have h := h.1 hb
                refine hp_aload_n E hl 0 rfl 0 rfl dX4_know_28 (rfl : 28 + 1 = 29) ?_
                refine hp_getR E hR in_X4 (hp_mono.c hm hc0) rfl 1 (Nat.le_of_ble_eq_true rfl) rfl q232 (fun _ h => h) dX4_know_29 (rfl : 29 + 3 = 32) ?_
                refine hp_iload_n E hl 2 rfl 2 rfl dX4_know_32 (rfl : 32 + 1 = 33) ?_
                obtain ⟨hc2201, h⟩ := h
                obtain ⟨hi2202, h⟩ := h
                refine hp_aald E hR (Or.inr (Or.inr hc2201)) hi2202 dX4_know_33 (rfl : 33 + 1 = 34) ?_
                refine hp_iload_n E hl 3 rfl 3 rfl dX4_know_34 (rfl : 34 + 1 = 35) ?_
                refine hp_iconst E (0 : Int32) (by decide) dX4_know_35 (rfl : 35 + 1 = 36) ?_
                obtain ⟨hc2203, h⟩ := h
                obtain ⟨hi2204, h⟩ := h
                refine hx_zast E hR hc2203 hi2204 (Or.inl rfl) dX4_know_36 (rfl : 36 + 1 = 37) (fun S2205 H locs e2207 hm2206 hR => ?_)
                have h := h S2205 e2207
                have hm := hp_mono.tr hm hm2206
                have ms7 := hp_mono.tr ms7 hm2206
                have ms22 := hp_mono.tr ms22 hm2206
                refine hp_iinc E hl (v3 + (1 : Int32)) 3 (lv' := [(0, hp_v B o), (1, .int a1), (2, .int v2)]) dX4_know_37 (rfl : 37 + 3 = 40) rfl (by first | rfl | (congr 1)) (by decide) rfl (fun ls hl => ?_)
                refine hp_goto E (tgt := 22) dX4_know_40 (by decide) ?_
                exact hK22 _ _ _ _ _ h (lv_sub hl [1, 2, 3, 0] rfl) hR ms22
              · have h := h.2 hb
                refine hp_iinc E hl (v2 + (1 : Int32)) 2 (lv' := [(0, hp_v B o), (1, .int a1), (3, .int v3)]) dX4_know_43 (rfl : 43 + 3 = 46) rfl (by first | rfl | (congr 1)) (by decide) rfl (fun ls hl => ?_)
                refine hp_goto E (tgt := 7) dX4_know_46 (by decide) ?_
                exact hK7 _ _ _ _ _ h (lv_sub hl [1, 2, 0] rfl) hR ms7
          exact key22 (μ22 v3 Sa22 + 1) v3 _ H locs ls (Nat.lt_succ_self _) hI hl hR hp_mono.rf
        unfold wb_X4_know_7 at h
        refine hp_iload_n E hl 2 rfl 2 rfl dX4_know_7 (rfl : 7 + 1 = 8) ?_
        refine hp_bipush E (12 : Int32) (by decide) dX4_know_8 (rfl : 8 + 2 = 10) ?_
        refine hp_icmp_ge E dX4_know_10 (rfl : 10 + 3 = 13) (tgt := 49) (by decide) (fun hb => ?_) (fun hb => ?_)
        · have h := h.1 hb
          refine hp_aload_n E hl 0 rfl 0 rfl dX4_know_13 (rfl : 13 + 1 = 14) ?_
          refine hp_getR E hR in_X4 (hp_mono.c hm hc0) rfl 0 (Nat.le_of_ble_eq_true rfl) rfl q226 (fun _ h => h) dX4_know_14 (rfl : 14 + 3 = 17) ?_
          refine hp_iload_n E hl 2 rfl 2 rfl dX4_know_17 (rfl : 17 + 1 = 18) ?_
          refine hp_iconst E (-1 : Int32) (by decide) dX4_know_18 (rfl : 18 + 1 = 19) ?_
          obtain ⟨hc701, h⟩ := h
          obtain ⟨hi702, h⟩ := h
          refine hx_iast E hR hc701 hi702 dX4_know_19 (rfl : 19 + 1 = 20) (fun S703 H locs e705 hm704 hR => ?_)
          have h := h S703 e705
          have hm := hp_mono.tr hm hm704
          have ms7 := hp_mono.tr ms7 hm704
          refine hp_iconst E (0 : Int32) (by decide) dX4_know_20 (rfl : 20 + 1 = 21) ?_
          refine hp_istore_n E hl 3 rfl (lv' := [(0, hp_v B o), (1, .int a1), (2, .int v2)]) dX4_know_21 (rfl : 21 + 1 = 22) (by decide) rfl (fun ls hl => ?_)
          exact b22 _ _ _ _ _ _ h (lv_sub hl [1, 2, 3, 0] rfl) hR hm ms7
        · have h := h.2 hb
          refine hp_iconst E (0 : Int32) (by decide) dX4_know_49 (rfl : 49 + 1 = 50) ?_
          refine hp_istore_n E hl 2 rfl (lv' := [(0, hp_v B o), (1, .int a1)]) dX4_know_50 (rfl : 50 + 1 = 51) (by decide) rfl (fun ls hl => ?_)
          exact b51 _ _ _ _ _ h (lv_sub hl [1, 2, 0] rfl) hR hm
    exact key7 (μ7 v2 Sa7 + 1) v2 _ H locs ls (Nat.lt_succ_self _) hI hl hR hp_mono.rf
  unfold wp_X4_know at h
  refine hp_aload_n E hl 0 rfl 0 rfl dX4_know_0 (rfl : 0 + 1 = 1) ?_
  refine hp_iload_n E hl 1 rfl 1 rfl dX4_know_1 (rfl : 1 + 1 = 2) ?_
  refine hx_putI E hR in_X4 tyX4 tyX4_ok nmX4 hc0 rfl 3 (Nat.le_of_ble_eq_true rfl) rfl q235 (fun _ h => h) (Or.inl rfl) (Or.inl rfl) dX4_know_2 (rfl : 2 + 3 = 5) (fun S1 H locs e3 hm2 hR => ?_)
  have h := h S1 e3
  have hm := hp_mono.tr hm hm2
  refine hp_iconst E (0 : Int32) (by decide) dX4_know_5 (rfl : 5 + 1 = 6) ?_
  refine hp_istore_n E hl 2 rfl (lv' := [(0, hp_v B o), (1, .int a1)]) dX4_know_6 (rfl : 6 + 1 = 7) (by decide) rfl (fun ls hl => ?_)
  exact b7 _ _ _ _ _ h (lv_sub hl [1, 2, 0] rfl) hR hm
def wb_X1_dead_33 (o : Nat) (a1 : Int32) (a2 : Int32) (t0 : Int32) (S : hp_St) (Q : Int32 → hp_St → Prop) : Prop := Q t0 S
def wb_X1_dead_15 (o : Nat) (a1 : Int32) (a2 : Int32) (S : hp_St) (Q : Int32 → hp_St → Prop) : Prop := wb_X1_dead_33 o a1 a2 (-2 : Int32) S Q
def wp_X1_dead (o : Nat) (a1 : Int32) (a2 : Int32) (S : hp_St) (Q : Int32 → hp_St → Prop) : Prop := wp_X1_aLife o a1 S (fun z1 => (((z1 = 0) → wb_X1_dead_15 o a1 a2 S Q) ∧ ((¬ (z1 = 0)) → wp_X1_isHalf a2 S (fun z2 => (((z2 = 0) → wb_X1_dead_15 o a1 a2 S Q) ∧ ((¬ (z2 = 0)) → (st_C S (st_R S o 13) = 4) ∧ wp_X4_know (st_R S o 13) a2 S (fun z4 S5 => hp_mono S S5 → (st_C S5 z4 = 4) ∧ (st_C S5 (st_R S5 z4 0) = 50) ∧ (vp_in a1 (st_L S5 (st_R S5 z4 0))) ∧ wb_X1_dead_33 o a1 a2 (st_I S5 (st_R S5 z4 0) a1.toNatClampNeg) S5 Q)))))))
theorem nf_X1_dead : hp_nf yX1_dead 2 = true := by decide +kernel
set_option maxHeartbeats 4000000 in
theorem m_X1_dead {l : Launch} {B : Nat} {D : va_G} {s0 : State} {b0 : Nat} (G : hp_G l B D s0 b0) (o : Nat) (a1 : Int32) (a2 : Int32) (Si : hp_St) (Q : Int32 → hp_St → Prop) (hc0 : st_C Si o = 1) (h : wp_X1_dead o a1 a2 Si Q) : hp_M l B D s0 yX1_dead cX1_dead 3 (some .int) 7 448 0 0 [hp_v B o, .int a1, .int a2] Si (hp_Qi B D s0 (fun r S' => hp_mono Si S' ∧ Q r S')) := by
  refine hp_start G (by decide +kernel) rfl rfl (lv := [(0, hp_v B o), (1, .int a1), (2, .int a2)]) (by simp [lg_sl, hp_vc, hp_ci, hp_cj]) (by simp [lv_args, hp_vc, hp_ci, hp_cj]) ?_
  intro p e s m args below meth c E ls hl hR
  have hm : hp_mono Si Si := hp_mono.rf
  generalize hH : s.heap = H at hR ⊢
  generalize hLo : ([] : List Loc) = locs at hR ⊢
  have b33 : ∀ (t0 : Int32) (S : hp_St) (H : Heap) (locs : List Loc) (ls : Array Slot), wb_X1_dead_33 o a1 a2 t0 S Q → lv_has ls 3 [] → hp_S B D s0 S H locs → hp_mono Si S → W p l e ({ frames := 7, cells := 0, slots := 0, locals := 448 } : Room) s m args below meth c H locs 0 0 (MQ below (hp_Qi B D s0 (fun r S' => hp_mono Si S' ∧ Q r S')) args s 0 0 (fun q => B < q)) (F0 m 33 ls [.int t0]) := by
    intro t0 S H locs ls h hl hR hm
    unfold wb_X1_dead_33 at h
    exact hp_iret E hR ⟨hm, h⟩ (Nat.le_of_ble_eq_true rfl) (Nat.le_of_ble_eq_true rfl) dX1_dead_33
  have b15 : ∀ (S : hp_St) (H : Heap) (locs : List Loc) (ls : Array Slot), wb_X1_dead_15 o a1 a2 S Q → lv_has ls 3 [] → hp_S B D s0 S H locs → hp_mono Si S → W p l e ({ frames := 7, cells := 0, slots := 0, locals := 448 } : Room) s m args below meth c H locs 0 0 (MQ below (hp_Qi B D s0 (fun r S' => hp_mono Si S' ∧ Q r S')) args s 0 0 (fun q => B < q)) (F0 m 15 ls []) := by
    intro S H locs ls h hl hR hm
    unfold wb_X1_dead_15 at h
    refine hp_bipush E (-2 : Int32) (by decide) dX1_dead_15 (rfl : 15 + 2 = 17) ?_
    refine hp_goto E (tgt := 33) dX1_dead_17 (by decide) ?_
    exact b33 _ _ _ _ _ h hl hR hm
  unfold wp_X1_dead at h
  refine hp_aload_n E hl 0 rfl 0 rfl dX1_dead_0 (rfl : 0 + 1 = 1) ?_
  refine hp_iload_n E hl 1 rfl 1 rfl dX1_dead_1 (rfl : 1 + 1 = 2) ?_
  refine hp_fa (hp_rV E hR hl (m_X1_aLife G _ _ _ _ hc0 h) hc0 (ci := 0) rfl rfl q723 q725 qs16 q73 q726 nf_X1_aLife ⟨Nat.le_of_ble_eq_true rfl, Nat.le_of_ble_eq_true rfl⟩ (rest := []) rfl (Nat.le_of_ble_eq_true rfl) dX1_dead_2 ⟨Nat.le_of_ble_eq_true rfl, Nat.le_of_ble_eq_true rfl⟩) hR (rfl : 2 + 3 = 5) (fun z1 Sx H locs hq hR => ?_)
  obtain ⟨hSx, h⟩ := hq
  rw [hSx] at hR
  refine hp_ifnull E dX1_dead_5 (rfl : 5 + 3 = 8) (tgt := 15) (by decide) (fun hb => ?_) (fun hb => ?_)
  · have h := h.1 hb
    exact b15 _ _ _ _ h (lv_sub hl [] rfl) hR hm
  · have h := h.2 hb
    refine hp_iload_n E hl 2 rfl 2 rfl dX1_dead_8 (rfl : 8 + 1 = 9) ?_
    refine hp_fi (hp_rS E hR hl (m_X1_isHalf G _ _ _ h) q879 q880 q73 q881 nf_X1_isHalf ⟨Nat.le_of_ble_eq_true rfl, Nat.le_of_ble_eq_true rfl⟩ (rest := []) rfl (Nat.le_of_ble_eq_true rfl) dX1_dead_9 ⟨Nat.le_of_ble_eq_true rfl, Nat.le_of_ble_eq_true rfl⟩) hR (rfl : 9 + 3 = 12) (fun z2 Sx H locs hq hR => ?_)
    obtain ⟨hSx, h⟩ := hq
    rw [hSx] at hR
    refine hp_if_ne E dX1_dead_12 (rfl : 12 + 3 = 15) (tgt := 20) (by decide) (fun hb => ?_) (fun hb => ?_)
    · have h := h.1 hb
      exact b15 _ _ _ _ h (lv_sub hl [] rfl) hR hm
    · have h := h.2 hb
      refine hp_aload_n E hl 0 rfl 0 rfl dX1_dead_20 (rfl : 20 + 1 = 21) ?_
      refine hp_getR E hR in_X1 hc0 rfl 13 (Nat.le_of_ble_eq_true rfl) rfl q336 (fun _ h => h) dX1_dead_21 (rfl : 21 + 3 = 24) ?_
      refine hp_iload_n E hl 2 rfl 2 rfl dX1_dead_24 (rfl : 24 + 1 = 25) ?_
      obtain ⟨hc3, h⟩ := h
      refine hp_fa (hp_rV E hR hl (m_X4_know G _ _ _ _ hc3 h) hc3 (ci := 3) rfl rfl q946 q947 q948 q79 q949 nf_X4_know ⟨Nat.le_of_ble_eq_true rfl, Nat.le_of_ble_eq_true rfl⟩ (rest := []) rfl (Nat.le_of_ble_eq_true rfl) dX1_dead_25 ⟨Nat.le_of_ble_eq_true rfl, Nat.le_of_ble_eq_true rfl⟩) hR (rfl : 25 + 3 = 28) (fun z4 S5 H locs hq hR => ?_)
      obtain ⟨hm6, h⟩ := hq
      have h := h hm6
      have hm := hp_mono.tr hm hm6
      obtain ⟨hc7, h⟩ := h
      refine hp_getRN E hR in_X4 hc7 rfl 0 (Nat.le_of_ble_eq_true rfl) rfl q231 (fun _ h => h) dX1_dead_28 (rfl : 28 + 3 = 31) ?_
      refine hp_iload_n E hl 1 rfl 1 rfl dX1_dead_31 (rfl : 31 + 1 = 32) ?_
      obtain ⟨hc8, h⟩ := h
      obtain ⟨hi9, h⟩ := h
      refine hp_iald E hR hc8 hi9 dX1_dead_32 (rfl : 32 + 1 = 33) ?_
      exact b33 _ _ _ _ _ h (lv_sub hl [] rfl) hR hm
def wp_X14_isFalse (o : Nat) (a1 : Nat) (S : hp_St) (Q : Int32 → Prop) : Prop := Q (0 : Int32)
theorem nf_X14_isFalse : hp_nf yX14_isFalse 1 = true := by decide +kernel
set_option maxHeartbeats 4000000 in
theorem m_X14_isFalse {l : Launch} {B : Nat} {D : va_G} {s0 : State} {b0 : Nat} (G : hp_G l B D s0 b0) (o : Nat) (a1 : Nat) (Si : hp_St) (Q : Int32 → Prop) (hc0 : st_C Si o = 14 ∨ st_C Si o = 16) (h : wp_X14_isFalse o a1 Si Q) : hp_M l B D s0 yX14_isFalse cX14_isFalse 2 (some .boolean) 2 128 0 0 [hp_v B o, hp_v B a1] Si (hp_Qi B D s0 (fun r S' => S' = Si ∧ Q r)) := by
  refine hp_start G (by decide +kernel) rfl rfl (lv := [(0, hp_v B o), (1, hp_v B a1)]) (by simp [lg_sl, hp_vc, hp_ci, hp_cj]) (by simp [lv_args, hp_vc, hp_ci, hp_cj]) ?_
  intro p e s m args below meth c E ls hl hR
  unfold wp_X14_isFalse at h
  refine hp_iconst E (0 : Int32) (by decide) dX14_isFalse_0 (rfl : 0 + 1 = 1) ?_
  exact hp_zret E hR (Or.inl rfl) ⟨rfl, h⟩ (Nat.le_of_ble_eq_true rfl) (Nat.le_of_ble_eq_true rfl) dX14_isFalse_1
def wb_X17_isFalse_54 (o : Nat) (a1 : Nat) (t0 : Int32) (S : hp_St) (Q : Int32 → Prop) : Prop := (t0 = 0 ∨ t0 = 1) ∧ Q t0
def wb_X17_isFalse_49 (o : Nat) (a1 : Nat) (S : hp_St) (Q : Int32 → Prop) : Prop := wb_X17_isFalse_54 o a1 (1 : Int32) S Q
def wb_X17_isFalse_53 (o : Nat) (a1 : Nat) (S : hp_St) (Q : Int32 → Prop) : Prop := wb_X17_isFalse_54 o a1 (0 : Int32) S Q
def wp_X17_isFalse (o : Nat) (a1 : Nat) (S : hp_St) (Q : Int32 → Prop) : Prop := (st_C S (st_R S o 1) = 10) ∧ ((((st_I S o 2) < (st_I S (st_R S o 1) 1)) → wb_X17_isFalse_49 o a1 S Q) ∧ ((¬ ((st_I S o 2) < (st_I S (st_R S o 1) 1))) → (st_C S a1 = 4) ∧ (st_C S (st_R S a1 0) = 50) ∧ (vp_in (st_I S (st_R S o 1) 0) (st_L S (st_R S a1 0))) ∧ ((((st_I S (st_R S a1 0) (st_I S (st_R S o 1) 0).toNatClampNeg) = (-1 : Int32)) → wb_X17_isFalse_53 o a1 S Q) ∧ ((¬ ((st_I S (st_R S a1 0) (st_I S (st_R S o 1) 0).toNatClampNeg) = (-1 : Int32))) → (vp_in (st_I S (st_R S o 1) 0) (st_L S (st_R S a1 0))) ∧ ((((st_I S o 2) ≤ (st_I S (st_R S a1 0) (st_I S (st_R S o 1) 0).toNatClampNeg)) → wb_X17_isFalse_53 o a1 S Q) ∧ ((¬ ((st_I S o 2) ≤ (st_I S (st_R S a1 0) (st_I S (st_R S o 1) 0).toNatClampNeg))) → wb_X17_isFalse_49 o a1 S Q))))))
theorem nf_X17_isFalse : hp_nf yX17_isFalse 1 = true := by decide +kernel
set_option maxHeartbeats 4000000 in
theorem m_X17_isFalse {l : Launch} {B : Nat} {D : va_G} {s0 : State} {b0 : Nat} (G : hp_G l B D s0 b0) (o : Nat) (a1 : Nat) (Si : hp_St) (Q : Int32 → Prop) (hc0 : st_C Si o = 15) (h : wp_X17_isFalse o a1 Si Q) : hp_M l B D s0 yX17_isFalse cX17_isFalse 2 (some .boolean) 2 128 0 0 [hp_v B o, hp_v B a1] Si (hp_Qi B D s0 (fun r S' => S' = Si ∧ Q r)) := by
  refine hp_start G (by decide +kernel) rfl rfl (lv := [(0, hp_v B o), (1, hp_v B a1)]) (by simp [lg_sl, hp_vc, hp_ci, hp_cj]) (by simp [lv_args, hp_vc, hp_ci, hp_cj]) ?_
  intro p e s m args below meth c E ls hl hR
  generalize hH : s.heap = H at hR ⊢
  generalize hLo : ([] : List Loc) = locs at hR ⊢
  have b54 : ∀ (t0 : Int32) (H : Heap) (locs : List Loc) (ls : Array Slot), wb_X17_isFalse_54 o a1 t0 Si Q → lv_has ls 2 [] → hp_S B D s0 Si H locs → W p l e ({ frames := 2, cells := 0, slots := 0, locals := 128 } : Room) s m args below meth c H locs 0 0 (MQ below (hp_Qi B D s0 (fun r S' => S' = Si ∧ Q r)) args s 0 0 (fun q => B < q)) (F0 m 54 ls [.int t0]) := by
    intro t0 H locs ls h hl hR
    unfold wb_X17_isFalse_54 at h
    obtain ⟨hz5401, h⟩ := h
    exact hp_zret E hR hz5401 ⟨rfl, h⟩ (Nat.le_of_ble_eq_true rfl) (Nat.le_of_ble_eq_true rfl) dX17_isFalse_54
  have b49 : ∀ (H : Heap) (locs : List Loc) (ls : Array Slot), wb_X17_isFalse_49 o a1 Si Q → lv_has ls 2 [] → hp_S B D s0 Si H locs → W p l e ({ frames := 2, cells := 0, slots := 0, locals := 128 } : Room) s m args below meth c H locs 0 0 (MQ below (hp_Qi B D s0 (fun r S' => S' = Si ∧ Q r)) args s 0 0 (fun q => B < q)) (F0 m 49 ls []) := by
    intro  H locs ls h hl hR
    unfold wb_X17_isFalse_49 at h
    refine hp_iconst E (1 : Int32) (by decide) dX17_isFalse_49 (rfl : 49 + 1 = 50) ?_
    refine hp_goto E (tgt := 54) dX17_isFalse_50 (by decide) ?_
    exact b54 _ _ _ _ h hl hR
  have b53 : ∀ (H : Heap) (locs : List Loc) (ls : Array Slot), wb_X17_isFalse_53 o a1 Si Q → lv_has ls 2 [] → hp_S B D s0 Si H locs → W p l e ({ frames := 2, cells := 0, slots := 0, locals := 128 } : Room) s m args below meth c H locs 0 0 (MQ below (hp_Qi B D s0 (fun r S' => S' = Si ∧ Q r)) args s 0 0 (fun q => B < q)) (F0 m 53 ls []) := by
    intro  H locs ls h hl hR
    unfold wb_X17_isFalse_53 at h
    refine hp_iconst E (0 : Int32) (by decide) dX17_isFalse_53 (rfl : 53 + 1 = 54) ?_
    exact b54 _ _ _ _ h hl hR
  unfold wp_X17_isFalse at h
  refine hp_aload_n E hl 0 rfl 0 rfl dX17_isFalse_0 (rfl : 0 + 1 = 1) ?_
  refine hp_getI E hR in_N17 hc0 rfl 2 (Nat.le_of_ble_eq_true rfl) rfl q906 (fun x h => u_same (E.w q907) x h) dX17_isFalse_1 (rfl : 1 + 3 = 4) ?_
  refine hp_aload_n E hl 0 rfl 0 rfl dX17_isFalse_4 (rfl : 4 + 1 = 5) ?_
  refine hp_getR E hR in_N17 hc0 rfl 1 (Nat.le_of_ble_eq_true rfl) rfl q901 (fun x h => u_same (E.w q902) x h) dX17_isFalse_5 (rfl : 5 + 3 = 8) ?_
  obtain ⟨hc1, h⟩ := h
  refine hp_getIN E hR in_X10 hc1 rfl 1 (Nat.le_of_ble_eq_true rfl) rfl q705 (fun _ h => h) dX17_isFalse_8 (rfl : 8 + 3 = 11) ?_
  refine hp_icmp_lt E dX17_isFalse_11 (rfl : 11 + 3 = 14) (tgt := 49) (by decide) (fun hb => ?_) (fun hb => ?_)
  · have h := h.1 hb
    exact b49 _ _ _ h (lv_sub hl [] rfl) hR
  · have h := h.2 hb
    refine hp_aload_n E hl 1 rfl 1 rfl dX17_isFalse_14 (rfl : 14 + 1 = 15) ?_
    obtain ⟨hc2, h⟩ := h
    refine hp_getRN E hR in_X4 hc2 rfl 0 (Nat.le_of_ble_eq_true rfl) rfl q230 (fun _ h => h) dX17_isFalse_15 (rfl : 15 + 3 = 18) ?_
    refine hp_aload_n E hl 0 rfl 0 rfl dX17_isFalse_18 (rfl : 18 + 1 = 19) ?_
    refine hp_getR E hR in_N17 hc0 rfl 1 (Nat.le_of_ble_eq_true rfl) rfl q901 (fun x h => u_same (E.w q902) x h) dX17_isFalse_19 (rfl : 19 + 3 = 22) ?_
    refine hp_getIN E hR in_X10 hc1 rfl 0 (Nat.le_of_ble_eq_true rfl) rfl q700 (fun _ h => h) dX17_isFalse_22 (rfl : 22 + 3 = 25) ?_
    obtain ⟨hc3, h⟩ := h
    obtain ⟨hi4, h⟩ := h
    refine hp_iald E hR hc3 hi4 dX17_isFalse_25 (rfl : 25 + 1 = 26) ?_
    refine hp_iconst E (-1 : Int32) (by decide) dX17_isFalse_26 (rfl : 26 + 1 = 27) ?_
    refine hp_icmp_eq E dX17_isFalse_27 (rfl : 27 + 3 = 30) (tgt := 53) (by decide) (fun hb => ?_) (fun hb => ?_)
    · have h := h.1 hb
      exact b53 _ _ _ h (lv_sub hl [] rfl) hR
    · have h := h.2 hb
      refine hp_aload_n E hl 0 rfl 0 rfl dX17_isFalse_30 (rfl : 30 + 1 = 31) ?_
      refine hp_getI E hR in_N17 hc0 rfl 2 (Nat.le_of_ble_eq_true rfl) rfl q906 (fun x h => u_same (E.w q907) x h) dX17_isFalse_31 (rfl : 31 + 3 = 34) ?_
      refine hp_aload_n E hl 1 rfl 1 rfl dX17_isFalse_34 (rfl : 34 + 1 = 35) ?_
      refine hp_getRN E hR in_X4 hc2 rfl 0 (Nat.le_of_ble_eq_true rfl) rfl q230 (fun _ h => h) dX17_isFalse_35 (rfl : 35 + 3 = 38) ?_
      refine hp_aload_n E hl 0 rfl 0 rfl dX17_isFalse_38 (rfl : 38 + 1 = 39) ?_
      refine hp_getR E hR in_N17 hc0 rfl 1 (Nat.le_of_ble_eq_true rfl) rfl q901 (fun x h => u_same (E.w q902) x h) dX17_isFalse_39 (rfl : 39 + 3 = 42) ?_
      refine hp_getIN E hR in_X10 hc1 rfl 0 (Nat.le_of_ble_eq_true rfl) rfl q700 (fun _ h => h) dX17_isFalse_42 (rfl : 42 + 3 = 45) ?_
      obtain ⟨hi5, h⟩ := h
      refine hp_iald E hR hc3 hi5 dX17_isFalse_45 (rfl : 45 + 1 = 46) ?_
      refine hp_icmp_le E dX17_isFalse_46 (rfl : 46 + 3 = 49) (tgt := 53) (by decide) (fun hb => ?_) (fun hb => ?_)
      · have h := h.1 hb
        exact b53 _ _ _ h (lv_sub hl [] rfl) hR
      · have h := h.2 hb
        exact b49 _ _ _ h (lv_sub hl [] rfl) hR
def wb_X1_holds_24 (o : Nat) (a1 : Int32) (a2 : Int32) (S : hp_St) (Q : Int32 → hp_St → Prop) : Prop := Q (-1 : Int32) S
def wb_X1_holds_76 (o : Nat) (a1 : Int32) (a2 : Int32) (t0 : Int32) (S : hp_St) (Q : Int32 → hp_St → Prop) : Prop := Q t0 S
def wp_X1_holds (o : Nat) (a1 : Int32) (a2 : Int32) (S : hp_St) (Q : Int32 → hp_St → Prop) : Prop := (st_C S (st_R S o 10) = 17) ∧ wp_J2_size (st_R S o 10) S (fun z2 => wp_X1_in a1 (0 : Int32) (z2 - (1 : Int32)) S (fun z3 => (((z3 = 0) → wb_X1_holds_24 o a1 a2 S Q) ∧ ((¬ (z3 = 0)) → wp_X1_isHalf a2 S (fun z4 => (((z4 = 0) → wb_X1_holds_24 o a1 a2 S Q) ∧ ((¬ (z4 = 0)) → (st_C S (st_R S o 13) = 4) ∧ wp_X4_know (st_R S o 13) a2 S (fun z6 S7 => hp_mono S S7 → (st_C S7 (st_R S7 o 13) = 4) ∧ wp_X4_counts (st_R S7 o 13) a1 S7 (fun z10 => (((z10 = 0) → wb_X1_holds_76 o a1 a2 (0 : Int32) S7 Q) ∧ ((¬ (z10 = 0)) → (st_C S7 (st_R S7 o 10) = 17) ∧ wp_J2_get (st_R S7 o 10) a1 S7 (fun z12 => (st_C S7 z12 = 14 ∨ st_C S7 z12 = 15 ∨ st_C S7 z12 = 16) ∧ hp_virt (fun Kc15 => (st_C S7 z12 = 14 → wp_X14_isFalse z12 (st_R S7 o 13) S7 Kc15) ∧ (st_C S7 z12 = 15 → wp_X17_isFalse z12 (st_R S7 o 13) S7 Kc15) ∧ (st_C S7 z12 = 16 → wp_X14_isFalse z12 (st_R S7 o 13) S7 Kc15)) (fun z14 => (((z14 = 0) → wb_X1_holds_76 o a1 a2 (1 : Int32) S7 Q) ∧ ((¬ (z14 = 0)) → wb_X1_holds_76 o a1 a2 (2 : Int32) S7 Q)))))))))))))))
theorem nf_X1_holds : hp_nf yX1_holds 2 = true := by decide +kernel
set_option maxHeartbeats 4000000 in
theorem m_X1_holds {l : Launch} {B : Nat} {D : va_G} {s0 : State} {b0 : Nat} (G : hp_G l B D s0 b0) (o : Nat) (a1 : Int32) (a2 : Int32) (Si : hp_St) (Q : Int32 → hp_St → Prop) (hc0 : st_C Si o = 1) (h : wp_X1_holds o a1 a2 Si Q) : hp_M l B D s0 yX1_holds cX1_holds 3 (some .int) 7 448 0 0 [hp_v B o, .int a1, .int a2] Si (hp_Qi B D s0 (fun r S' => hp_mono Si S' ∧ Q r S')) := by
  refine hp_start G (by decide +kernel) rfl rfl (lv := [(0, hp_v B o), (1, .int a1), (2, .int a2)]) (by simp [lg_sl, hp_vc, hp_ci, hp_cj]) (by simp [lv_args, hp_vc, hp_ci, hp_cj]) ?_
  intro p e s m args below meth c E ls hl hR
  have hm : hp_mono Si Si := hp_mono.rf
  generalize hH : s.heap = H at hR ⊢
  generalize hLo : ([] : List Loc) = locs at hR ⊢
  have b24 : ∀ (S : hp_St) (H : Heap) (locs : List Loc) (ls : Array Slot), wb_X1_holds_24 o a1 a2 S Q → lv_has ls 3 [] → hp_S B D s0 S H locs → hp_mono Si S → W p l e ({ frames := 7, cells := 0, slots := 0, locals := 448 } : Room) s m args below meth c H locs 0 0 (MQ below (hp_Qi B D s0 (fun r S' => hp_mono Si S' ∧ Q r S')) args s 0 0 (fun q => B < q)) (F0 m 24 ls []) := by
    intro S H locs ls h hl hR hm
    unfold wb_X1_holds_24 at h
    refine hp_iconst E (-1 : Int32) (by decide) dX1_holds_24 (rfl : 24 + 1 = 25) ?_
    exact hp_iret E hR ⟨hm, h⟩ (Nat.le_of_ble_eq_true rfl) (Nat.le_of_ble_eq_true rfl) dX1_holds_25
  have b76 : ∀ (t0 : Int32) (S : hp_St) (H : Heap) (locs : List Loc) (ls : Array Slot), wb_X1_holds_76 o a1 a2 t0 S Q → lv_has ls 3 [] → hp_S B D s0 S H locs → hp_mono Si S → W p l e ({ frames := 7, cells := 0, slots := 0, locals := 448 } : Room) s m args below meth c H locs 0 0 (MQ below (hp_Qi B D s0 (fun r S' => hp_mono Si S' ∧ Q r S')) args s 0 0 (fun q => B < q)) (F0 m 76 ls [.int t0]) := by
    intro t0 S H locs ls h hl hR hm
    unfold wb_X1_holds_76 at h
    exact hp_iret E hR ⟨hm, h⟩ (Nat.le_of_ble_eq_true rfl) (Nat.le_of_ble_eq_true rfl) dX1_holds_76
  unfold wp_X1_holds at h
  refine hp_iload_n E hl 1 rfl 1 rfl dX1_holds_0 (rfl : 0 + 1 = 1) ?_
  refine hp_iconst E (0 : Int32) (by decide) dX1_holds_1 (rfl : 1 + 1 = 2) ?_
  refine hp_aload_n E hl 0 rfl 0 rfl dX1_holds_2 (rfl : 2 + 1 = 3) ?_
  refine hp_getR E hR in_X1 hc0 rfl 10 (Nat.le_of_ble_eq_true rfl) rfl q331 (fun _ h => h) dX1_holds_3 (rfl : 3 + 3 = 6) ?_
  obtain ⟨hc1, h⟩ := h
  refine hp_fi (hp_rV E hR hl (m_J2_size G _ _ _ hc1 h) hc1 (ci := 16) rfl rfl q691 q545 q546 q78 q547 nf_J2_size ⟨Nat.le_of_ble_eq_true rfl, Nat.le_of_ble_eq_true rfl⟩ (rest := [.int (0 : Int32), .int a1]) rfl (Nat.le_of_ble_eq_true rfl) dX1_holds_6 ⟨Nat.le_of_ble_eq_true rfl, Nat.le_of_ble_eq_true rfl⟩) hR (rfl : 6 + 3 = 9) (fun z2 Sx H locs hq hR => ?_)
  obtain ⟨hSx, h⟩ := hq
  rw [hSx] at hR
  refine hp_iconst E (1 : Int32) (by decide) dX1_holds_9 (rfl : 9 + 1 = 10) ?_
  refine hp_isub E dX1_holds_10 (rfl : 10 + 1 = 11) ?_
  refine hp_fi (hp_rS E hR hl (m_X1_in G _ _ _ _ _ h) q394 q395 q73 q396 nf_X1_in ⟨Nat.le_of_ble_eq_true rfl, Nat.le_of_ble_eq_true rfl⟩ (rest := []) rfl (Nat.le_of_ble_eq_true rfl) dX1_holds_11 ⟨Nat.le_of_ble_eq_true rfl, Nat.le_of_ble_eq_true rfl⟩) hR (rfl : 11 + 3 = 14) (fun z3 Sx H locs hq hR => ?_)
  obtain ⟨hSx, h⟩ := hq
  rw [hSx] at hR
  refine hp_if_eq E dX1_holds_14 (rfl : 14 + 3 = 17) (tgt := 24) (by decide) (fun hb => ?_) (fun hb => ?_)
  · have h := h.1 hb
    exact b24 _ _ _ _ h (lv_sub hl [] rfl) hR hm
  · have h := h.2 hb
    refine hp_iload_n E hl 2 rfl 2 rfl dX1_holds_17 (rfl : 17 + 1 = 18) ?_
    refine hp_fi (hp_rS E hR hl (m_X1_isHalf G _ _ _ h) q879 q880 q73 q881 nf_X1_isHalf ⟨Nat.le_of_ble_eq_true rfl, Nat.le_of_ble_eq_true rfl⟩ (rest := []) rfl (Nat.le_of_ble_eq_true rfl) dX1_holds_18 ⟨Nat.le_of_ble_eq_true rfl, Nat.le_of_ble_eq_true rfl⟩) hR (rfl : 18 + 3 = 21) (fun z4 Sx H locs hq hR => ?_)
    obtain ⟨hSx, h⟩ := hq
    rw [hSx] at hR
    refine hp_if_ne E dX1_holds_21 (rfl : 21 + 3 = 24) (tgt := 26) (by decide) (fun hb => ?_) (fun hb => ?_)
    · have h := h.1 hb
      exact b24 _ _ _ _ h (lv_sub hl [] rfl) hR hm
    · have h := h.2 hb
      refine hp_aload_n E hl 0 rfl 0 rfl dX1_holds_26 (rfl : 26 + 1 = 27) ?_
      refine hp_getR E hR in_X1 hc0 rfl 13 (Nat.le_of_ble_eq_true rfl) rfl q336 (fun _ h => h) dX1_holds_27 (rfl : 27 + 3 = 30) ?_
      refine hp_iload_n E hl 2 rfl 2 rfl dX1_holds_30 (rfl : 30 + 1 = 31) ?_
      obtain ⟨hc5, h⟩ := h
      refine hp_fa (hp_rV E hR hl (m_X4_know G _ _ _ _ hc5 h) hc5 (ci := 3) rfl rfl q946 q947 q948 q79 q949 nf_X4_know ⟨Nat.le_of_ble_eq_true rfl, Nat.le_of_ble_eq_true rfl⟩ (rest := []) rfl (Nat.le_of_ble_eq_true rfl) dX1_holds_31 ⟨Nat.le_of_ble_eq_true rfl, Nat.le_of_ble_eq_true rfl⟩) hR (rfl : 31 + 3 = 34) (fun z6 S7 H locs hq hR => ?_)
      obtain ⟨hm8, h⟩ := hq
      have h := h hm8
      have hm := hp_mono.tr hm hm8
      refine hp_pop E hp_vc dX1_holds_34 (rfl : 34 + 1 = 35) ?_
      refine hp_aload_n E hl 0 rfl 0 rfl dX1_holds_35 (rfl : 35 + 1 = 36) ?_
      refine hp_getR E hR in_X1 (hp_mono.c hm hc0) rfl 13 (Nat.le_of_ble_eq_true rfl) rfl q336 (fun _ h => h) dX1_holds_36 (rfl : 36 + 3 = 39) ?_
      refine hp_iload_n E hl 1 rfl 1 rfl dX1_holds_39 (rfl : 39 + 1 = 40) ?_
      obtain ⟨hc9, h⟩ := h
      refine hp_fi (hp_rV E hR hl (m_X4_counts G _ _ _ _ hc9 h) hc9 (ci := 3) rfl rfl q981 q963 q964 q79 q965 nf_X4_counts ⟨Nat.le_of_ble_eq_true rfl, Nat.le_of_ble_eq_true rfl⟩ (rest := []) rfl (Nat.le_of_ble_eq_true rfl) dX1_holds_40 ⟨Nat.le_of_ble_eq_true rfl, Nat.le_of_ble_eq_true rfl⟩) hR (rfl : 40 + 3 = 43) (fun z10 Sx H locs hq hR => ?_)
      obtain ⟨hSx, h⟩ := hq
      rw [hSx] at hR
      refine hp_if_ne E dX1_holds_43 (rfl : 43 + 3 = 46) (tgt := 50) (by decide) (fun hb => ?_) (fun hb => ?_)
      · have h := h.1 hb
        refine hp_iconst E (0 : Int32) (by decide) dX1_holds_46 (rfl : 46 + 1 = 47) ?_
        refine hp_goto E (tgt := 76) dX1_holds_47 (by decide) ?_
        exact b76 _ _ _ _ _ h (lv_sub hl [] rfl) hR hm
      · have h := h.2 hb
        refine hp_aload_n E hl 0 rfl 0 rfl dX1_holds_50 (rfl : 50 + 1 = 51) ?_
        refine hp_getR E hR in_X1 (hp_mono.c hm hc0) rfl 10 (Nat.le_of_ble_eq_true rfl) rfl q331 (fun _ h => h) dX1_holds_51 (rfl : 51 + 3 = 54) ?_
        refine hp_iload_n E hl 1 rfl 1 rfl dX1_holds_54 (rfl : 54 + 1 = 55) ?_
        obtain ⟨hc11, h⟩ := h
        refine hp_fa (hp_rV E hR hl (m_J2_get G _ _ _ _ hc11 h) hc11 (ci := 16) rfl rfl q727 q728 q729 q78 q730 nf_J2_get ⟨Nat.le_of_ble_eq_true rfl, Nat.le_of_ble_eq_true rfl⟩ (rest := []) rfl (Nat.le_of_ble_eq_true rfl) dX1_holds_55 ⟨Nat.le_of_ble_eq_true rfl, Nat.le_of_ble_eq_true rfl⟩) hR (rfl : 55 + 3 = 58) (fun z12 Sx H locs hq hR => ?_)
        obtain ⟨hSx, h⟩ := hq
        rw [hSx] at hR
        obtain ⟨hc13, h⟩ := h
        refine hp_or3 hc13 (fun hc kk => hp_castY E hR hc (ci := 13) rfl q982 q1725 dX1_holds_58 (rfl : 58 + 3 = 61) kk) (fun hc kk => hp_castY E hR hc (ci := 14) rfl q982 q1726 dX1_holds_58 (rfl : 58 + 3 = 61) kk) (fun hc kk => hp_castY E hR hc (ci := 15) rfl q982 q1727 dX1_holds_58 (rfl : 58 + 3 = 61) kk) ?_
        refine hp_aload_n E hl 0 rfl 0 rfl dX1_holds_61 (rfl : 61 + 1 = 62) ?_
        refine hp_getR E hR in_X1 (hp_mono.c hm hc0) rfl 13 (Nat.le_of_ble_eq_true rfl) rfl q336 (fun _ h => h) dX1_holds_62 (rfl : 62 + 3 = 65) ?_
        (try unfold hp_virt at h)
        refine hp_fi (hp_el3 hc13 (fun hc => hp_rU E hR hl (m_X14_isFalse G _ _ _ _ (Or.inl hc) (h.1 hc)) hc (ci := 13) rfl q983 q984 q986 q100 q991 q985 q984 q991 nf_X14_isFalse ⟨Nat.le_of_ble_eq_true rfl, Nat.le_of_ble_eq_true rfl⟩ (rest := []) rfl (Nat.le_of_ble_eq_true rfl) dX1_holds_65 ⟨Nat.le_of_ble_eq_true rfl, Nat.le_of_ble_eq_true rfl⟩) (fun hc => hp_rU E hR hl (m_X17_isFalse G _ _ _ _ hc (h.2.1 hc)) hc (ci := 14) rfl q983 q988 q987 q103 q989 q985 q984 q991 nf_X14_isFalse ⟨Nat.le_of_ble_eq_true rfl, Nat.le_of_ble_eq_true rfl⟩ (rest := []) rfl (Nat.le_of_ble_eq_true rfl) dX1_holds_65 ⟨Nat.le_of_ble_eq_true rfl, Nat.le_of_ble_eq_true rfl⟩) (fun hc => hp_rU E hR hl (m_X14_isFalse G _ _ _ _ (Or.inr hc) (h.2.2 hc)) hc (ci := 15) rfl q983 q984 q990 q100 q991 q985 q984 q991 nf_X14_isFalse ⟨Nat.le_of_ble_eq_true rfl, Nat.le_of_ble_eq_true rfl⟩ (rest := []) rfl (Nat.le_of_ble_eq_true rfl) dX1_holds_65 ⟨Nat.le_of_ble_eq_true rfl, Nat.le_of_ble_eq_true rfl⟩)) hR (rfl : 65 + 3 = 68) (fun z14 Sx H locs hq hR => ?_)
        obtain ⟨hSx, h⟩ := hq
        rw [hSx] at hR
        refine hp_if_eq E dX1_holds_68 (rfl : 68 + 3 = 71) (tgt := 75) (by decide) (fun hb => ?_) (fun hb => ?_)
        · have h := h.1 hb
          refine hp_iconst E (1 : Int32) (by decide) dX1_holds_75 (rfl : 75 + 1 = 76) ?_
          exact b76 _ _ _ _ _ h (lv_sub hl [] rfl) hR hm
        · have h := h.2 hb
          refine hp_iconst E (2 : Int32) (by decide) dX1_holds_71 (rfl : 71 + 1 = 72) ?_
          refine hp_goto E (tgt := 76) dX1_holds_72 (by decide) ?_
          exact b76 _ _ _ _ _ h (lv_sub hl [] rfl) hR hm
def wb_X4_livesIn_31 (o : Nat) (a1 : Nat) (a2 : Int32) (t0 : Int32) (S : hp_St) (Q : Int32 → Prop) : Prop := (t0 = 0 ∨ t0 = 1) ∧ Q t0
def wb_X4_livesIn_26 (o : Nat) (a1 : Nat) (a2 : Int32) (S : hp_St) (Q : Int32 → Prop) : Prop := wb_X4_livesIn_31 o a1 a2 (1 : Int32) S Q
def wp_X4_livesIn (o : Nat) (a1 : Nat) (a2 : Int32) (S : hp_St) (Q : Int32 → Prop) : Prop := (st_C S a1 = 10) ∧ (st_C S (st_R S o 0) = 50) ∧ (vp_in (st_I S a1 0) (st_L S (st_R S o 0))) ∧ ((((st_I S (st_R S o 0) (st_I S a1 0).toNatClampNeg) = (-1 : Int32)) → wb_X4_livesIn_26 o a1 a2 S Q) ∧ ((¬ ((st_I S (st_R S o 0) (st_I S a1 0).toNatClampNeg) = (-1 : Int32))) → (vp_in (st_I S a1 0) (st_L S (st_R S o 0))) ∧ ((((st_I S (st_R S o 0) (st_I S a1 0).toNatClampNeg) < a2) → wb_X4_livesIn_31 o a1 a2 (0 : Int32) S Q) ∧ ((¬ ((st_I S (st_R S o 0) (st_I S a1 0).toNatClampNeg) < a2)) → wb_X4_livesIn_26 o a1 a2 S Q))))
theorem nf_X4_livesIn : hp_nf yX4_livesIn 2 = true := by decide +kernel
set_option maxHeartbeats 4000000 in
theorem m_X4_livesIn {l : Launch} {B : Nat} {D : va_G} {s0 : State} {b0 : Nat} (G : hp_G l B D s0 b0) (o : Nat) (a1 : Nat) (a2 : Int32) (Si : hp_St) (Q : Int32 → Prop) (hc0 : st_C Si o = 4) (h : wp_X4_livesIn o a1 a2 Si Q) : hp_M l B D s0 yX4_livesIn cX4_livesIn 3 (some .boolean) 2 128 0 0 [hp_v B o, hp_v B a1, .int a2] Si (hp_Qi B D s0 (fun r S' => S' = Si ∧ Q r)) := by
  refine hp_start G (by decide +kernel) rfl rfl (lv := [(0, hp_v B o), (1, hp_v B a1), (2, .int a2)]) (by simp [lg_sl, hp_vc, hp_ci, hp_cj]) (by simp [lv_args, hp_vc, hp_ci, hp_cj]) ?_
  intro p e s m args below meth c E ls hl hR
  generalize hH : s.heap = H at hR ⊢
  generalize hLo : ([] : List Loc) = locs at hR ⊢
  have b31 : ∀ (t0 : Int32) (H : Heap) (locs : List Loc) (ls : Array Slot), wb_X4_livesIn_31 o a1 a2 t0 Si Q → lv_has ls 3 [] → hp_S B D s0 Si H locs → W p l e ({ frames := 2, cells := 0, slots := 0, locals := 128 } : Room) s m args below meth c H locs 0 0 (MQ below (hp_Qi B D s0 (fun r S' => S' = Si ∧ Q r)) args s 0 0 (fun q => B < q)) (F0 m 31 ls [.int t0]) := by
    intro t0 H locs ls h hl hR
    unfold wb_X4_livesIn_31 at h
    obtain ⟨hz3101, h⟩ := h
    exact hp_zret E hR hz3101 ⟨rfl, h⟩ (Nat.le_of_ble_eq_true rfl) (Nat.le_of_ble_eq_true rfl) dX4_livesIn_31
  have b26 : ∀ (H : Heap) (locs : List Loc) (ls : Array Slot), wb_X4_livesIn_26 o a1 a2 Si Q → lv_has ls 3 [] → hp_S B D s0 Si H locs → W p l e ({ frames := 2, cells := 0, slots := 0, locals := 128 } : Room) s m args below meth c H locs 0 0 (MQ below (hp_Qi B D s0 (fun r S' => S' = Si ∧ Q r)) args s 0 0 (fun q => B < q)) (F0 m 26 ls []) := by
    intro  H locs ls h hl hR
    unfold wb_X4_livesIn_26 at h
    refine hp_iconst E (1 : Int32) (by decide) dX4_livesIn_26 (rfl : 26 + 1 = 27) ?_
    refine hp_goto E (tgt := 31) dX4_livesIn_27 (by decide) ?_
    exact b31 _ _ _ _ h hl hR
  unfold wp_X4_livesIn at h
  refine hp_aload_n E hl 0 rfl 0 rfl dX4_livesIn_0 (rfl : 0 + 1 = 1) ?_
  refine hp_getR E hR in_X4 hc0 rfl 0 (Nat.le_of_ble_eq_true rfl) rfl q226 (fun _ h => h) dX4_livesIn_1 (rfl : 1 + 3 = 4) ?_
  refine hp_aload_n E hl 1 rfl 1 rfl dX4_livesIn_4 (rfl : 4 + 1 = 5) ?_
  obtain ⟨hc1, h⟩ := h
  refine hp_getIN E hR in_X10 hc1 rfl 0 (Nat.le_of_ble_eq_true rfl) rfl q701 (fun _ h => h) dX4_livesIn_5 (rfl : 5 + 3 = 8) ?_
  obtain ⟨hc2, h⟩ := h
  obtain ⟨hi3, h⟩ := h
  refine hp_iald E hR hc2 hi3 dX4_livesIn_8 (rfl : 8 + 1 = 9) ?_
  refine hp_iconst E (-1 : Int32) (by decide) dX4_livesIn_9 (rfl : 9 + 1 = 10) ?_
  refine hp_icmp_eq E dX4_livesIn_10 (rfl : 10 + 3 = 13) (tgt := 26) (by decide) (fun hb => ?_) (fun hb => ?_)
  · have h := h.1 hb
    exact b26 _ _ _ h (lv_sub hl [] rfl) hR
  · have h := h.2 hb
    refine hp_aload_n E hl 0 rfl 0 rfl dX4_livesIn_13 (rfl : 13 + 1 = 14) ?_
    refine hp_getR E hR in_X4 hc0 rfl 0 (Nat.le_of_ble_eq_true rfl) rfl q226 (fun _ h => h) dX4_livesIn_14 (rfl : 14 + 3 = 17) ?_
    refine hp_aload_n E hl 1 rfl 1 rfl dX4_livesIn_17 (rfl : 17 + 1 = 18) ?_
    refine hp_getIN E hR in_X10 hc1 rfl 0 (Nat.le_of_ble_eq_true rfl) rfl q701 (fun _ h => h) dX4_livesIn_18 (rfl : 18 + 3 = 21) ?_
    obtain ⟨hi4, h⟩ := h
    refine hp_iald E hR hc2 hi4 dX4_livesIn_21 (rfl : 21 + 1 = 22) ?_
    refine hp_iload_n E hl 2 rfl 2 rfl dX4_livesIn_22 (rfl : 22 + 1 = 23) ?_
    refine hp_icmp_lt E dX4_livesIn_23 (rfl : 23 + 3 = 26) (tgt := 30) (by decide) (fun hb => ?_) (fun hb => ?_)
    · have h := h.1 hb
      refine hp_iconst E (0 : Int32) (by decide) dX4_livesIn_30 (rfl : 30 + 1 = 31) ?_
      exact b31 _ _ _ _ h (lv_sub hl [] rfl) hR
    · have h := h.2 hb
      exact b26 _ _ _ h (lv_sub hl [] rfl) hR
def wp_X11_second (o : Nat) (S : hp_St) (Q : Nat → Prop) : Prop := Q 0
theorem nf_X11_second : hp_nf yX11_second 0 = true := by decide +kernel
set_option maxHeartbeats 4000000 in
theorem m_X11_second {l : Launch} {B : Nat} {D : va_G} {s0 : State} {b0 : Nat} (G : hp_G l B D s0 b0) (o : Nat) (Si : hp_St) (Q : Nat → Prop) (hc0 : st_C Si o = 11) (h : wp_X11_second o Si Q) : hp_M l B D s0 yX11_second cX11_second 1 (some (.object "LifeRents$Life")) 2 128 0 0 [hp_v B o] Si (hp_Qa B D s0 (fun r S' => S' = Si ∧ Q r)) := by
  refine hp_start G (by decide +kernel) rfl rfl (lv := [(0, hp_v B o)]) (by simp [lg_sl, hp_vc, hp_ci, hp_cj]) (by simp [lv_args, hp_vc, hp_ci, hp_cj]) ?_
  intro p e s m args below meth c E ls hl hR
  unfold wp_X11_second at h
  refine hp_null E dX11_second_0 (rfl : 0 + 1 = 1) ?_
  exact hp_aret E hR (Or.inl ⟨_, rfl⟩) ⟨rfl, h⟩ (Nat.le_of_ble_eq_true rfl) (Nat.le_of_ble_eq_true rfl) dX11_second_1
def wp_X12_second (o : Nat) (S : hp_St) (Q : Nat → Prop) : Prop := Q (st_R S o 7)
theorem nf_X12_second : hp_nf yX12_second 0 = true := by decide +kernel
set_option maxHeartbeats 4000000 in
theorem m_X12_second {l : Launch} {B : Nat} {D : va_G} {s0 : State} {b0 : Nat} (G : hp_G l B D s0 b0) (o : Nat) (Si : hp_St) (Q : Nat → Prop) (hc0 : st_C Si o = 12) (h : wp_X12_second o Si Q) : hp_M l B D s0 yX12_second cX12_second 1 (some (.object "LifeRents$Life")) 2 128 0 0 [hp_v B o] Si (hp_Qa B D s0 (fun r S' => S' = Si ∧ Q r)) := by
  refine hp_start G (by decide +kernel) rfl rfl (lv := [(0, hp_v B o)]) (by simp [lg_sl, hp_vc, hp_ci, hp_cj]) (by simp [lv_args, hp_vc, hp_ci, hp_cj]) ?_
  intro p e s m args below meth c E ls hl hR
  unfold wp_X12_second at h
  refine hp_aload_n E hl 0 rfl 0 rfl dX12_second_0 (rfl : 0 + 1 = 1) ?_
  refine hp_getR E hR in_X12 hc0 rfl 7 (Nat.le_of_ble_eq_true rfl) rfl q824 (fun _ h => h) dX12_second_1 (rfl : 1 + 3 = 4) ?_
  exact hp_aret E hR (Or.inl ⟨_, rfl⟩) ⟨rfl, h⟩ (Nat.le_of_ble_eq_true rfl) (Nat.le_of_ble_eq_true rfl) dX12_second_4
def wb_X4_isDue_44 (o : Nat) (a1 : Nat) (a2 : Int32) (t0 : Int32) (S : hp_St) (Q : Int32 → Prop) : Prop := (t0 = 0 ∨ t0 = 1) ∧ Q t0
def wb_X4_isDue_43 (o : Nat) (a1 : Nat) (a2 : Int32) (S : hp_St) (Q : Int32 → Prop) : Prop := wb_X4_isDue_44 o a1 a2 (0 : Int32) S Q
def wb_X4_isDue_39 (o : Nat) (a1 : Nat) (a2 : Int32) (S : hp_St) (Q : Int32 → Prop) : Prop := wb_X4_isDue_44 o a1 a2 (1 : Int32) S Q
def wp_X4_isDue (o : Nat) (a1 : Nat) (a2 : Int32) (S : hp_St) (Q : Int32 → Prop) : Prop := (st_C S a1 = 11 ∨ st_C S a1 = 12) ∧ (((a2 ≤ (st_I S a1 1)) → wb_X4_isDue_43 o a1 a2 S Q) ∧ ((¬ (a2 ≤ (st_I S a1 1))) → wp_X4_livesIn o (st_R S a1 4) a2 S (fun z2 => (((z2 = 0) → hp_virt (fun Kc4 => (st_C S a1 = 11 → wp_X11_second a1 S Kc4) ∧ (st_C S a1 = 12 → wp_X12_second a1 S Kc4)) (fun z3 => (((z3 = 0) → wb_X4_isDue_43 o a1 a2 S Q) ∧ ((¬ (z3 = 0)) → hp_virt (fun Kc6 => (st_C S a1 = 11 → wp_X11_second a1 S Kc6) ∧ (st_C S a1 = 12 → wp_X12_second a1 S Kc6)) (fun z5 => wp_X4_livesIn o z5 a2 S (fun z7 => (((z7 = 0) → wb_X4_isDue_43 o a1 a2 S Q) ∧ ((¬ (z7 = 0)) → wb_X4_isDue_39 o a1 a2 S Q)))))))) ∧ ((¬ (z2 = 0)) → wb_X4_isDue_39 o a1 a2 S Q)))))
theorem nf_X4_isDue : hp_nf yX4_isDue 2 = true := by decide +kernel
set_option maxHeartbeats 4000000 in
theorem m_X4_isDue {l : Launch} {B : Nat} {D : va_G} {s0 : State} {b0 : Nat} (G : hp_G l B D s0 b0) (o : Nat) (a1 : Nat) (a2 : Int32) (Si : hp_St) (Q : Int32 → Prop) (hc0 : st_C Si o = 4) (h : wp_X4_isDue o a1 a2 Si Q) : hp_M l B D s0 yX4_isDue cX4_isDue 3 (some .boolean) 3 192 0 0 [hp_v B o, hp_v B a1, .int a2] Si (hp_Qi B D s0 (fun r S' => S' = Si ∧ Q r)) := by
  refine hp_start G (by decide +kernel) rfl rfl (lv := [(0, hp_v B o), (1, hp_v B a1), (2, .int a2)]) (by simp [lg_sl, hp_vc, hp_ci, hp_cj]) (by simp [lv_args, hp_vc, hp_ci, hp_cj]) ?_
  intro p e s m args below meth c E ls hl hR
  generalize hH : s.heap = H at hR ⊢
  generalize hLo : ([] : List Loc) = locs at hR ⊢
  have b44 : ∀ (t0 : Int32) (H : Heap) (locs : List Loc) (ls : Array Slot), wb_X4_isDue_44 o a1 a2 t0 Si Q → lv_has ls 3 [] → hp_S B D s0 Si H locs → W p l e ({ frames := 3, cells := 0, slots := 0, locals := 192 } : Room) s m args below meth c H locs 0 0 (MQ below (hp_Qi B D s0 (fun r S' => S' = Si ∧ Q r)) args s 0 0 (fun q => B < q)) (F0 m 44 ls [.int t0]) := by
    intro t0 H locs ls h hl hR
    unfold wb_X4_isDue_44 at h
    obtain ⟨hz4401, h⟩ := h
    exact hp_zret E hR hz4401 ⟨rfl, h⟩ (Nat.le_of_ble_eq_true rfl) (Nat.le_of_ble_eq_true rfl) dX4_isDue_44
  have b43 : ∀ (H : Heap) (locs : List Loc) (ls : Array Slot), wb_X4_isDue_43 o a1 a2 Si Q → lv_has ls 3 [] → hp_S B D s0 Si H locs → W p l e ({ frames := 3, cells := 0, slots := 0, locals := 192 } : Room) s m args below meth c H locs 0 0 (MQ below (hp_Qi B D s0 (fun r S' => S' = Si ∧ Q r)) args s 0 0 (fun q => B < q)) (F0 m 43 ls []) := by
    intro  H locs ls h hl hR
    unfold wb_X4_isDue_43 at h
    refine hp_iconst E (0 : Int32) (by decide) dX4_isDue_43 (rfl : 43 + 1 = 44) ?_
    exact b44 _ _ _ _ h hl hR
  have b39 : ∀ (H : Heap) (locs : List Loc) (ls : Array Slot), wb_X4_isDue_39 o a1 a2 Si Q → lv_has ls 3 [] → hp_S B D s0 Si H locs → W p l e ({ frames := 3, cells := 0, slots := 0, locals := 192 } : Room) s m args below meth c H locs 0 0 (MQ below (hp_Qi B D s0 (fun r S' => S' = Si ∧ Q r)) args s 0 0 (fun q => B < q)) (F0 m 39 ls []) := by
    intro  H locs ls h hl hR
    unfold wb_X4_isDue_39 at h
    refine hp_iconst E (1 : Int32) (by decide) dX4_isDue_39 (rfl : 39 + 1 = 40) ?_
    refine hp_goto E (tgt := 44) dX4_isDue_40 (by decide) ?_
    exact b44 _ _ _ _ h hl hR
  unfold wp_X4_isDue at h
  refine hp_iload_n E hl 2 rfl 2 rfl dX4_isDue_0 (rfl : 0 + 1 = 1) ?_
  refine hp_aload_n E hl 1 rfl 1 rfl dX4_isDue_1 (rfl : 1 + 1 = 2) ?_
  obtain ⟨hc1, h⟩ := h
  refine hp_or2 hc1 (fun hc kk => hp_getI E hR in_X11 hc rfl 1 (Nat.le_of_ble_eq_true rfl) rfl q788 (fun _ h => h) dX4_isDue_2 (rfl : 2 + 3 = 5) kk) (fun hc kk => hp_getI E hR in_X12 hc rfl 1 (Nat.le_of_ble_eq_true rfl) rfl q788 (fun _ h => h) dX4_isDue_2 (rfl : 2 + 3 = 5) kk) ?_
  refine hp_icmp_le E dX4_isDue_5 (rfl : 5 + 3 = 8) (tgt := 43) (by decide) (fun hb => ?_) (fun hb => ?_)
  · have h := h.1 hb
    exact b43 _ _ _ h (lv_sub hl [] rfl) hR
  · have h := h.2 hb
    refine hp_aload_n E hl 0 rfl 0 rfl dX4_isDue_8 (rfl : 8 + 1 = 9) ?_
    refine hp_aload_n E hl 1 rfl 1 rfl dX4_isDue_9 (rfl : 9 + 1 = 10) ?_
    refine hp_or2 hc1 (fun hc kk => hp_getR E hR in_X11 hc rfl 4 (Nat.le_of_ble_eq_true rfl) rfl q797 (fun _ h => h) dX4_isDue_10 (rfl : 10 + 3 = 13) kk) (fun hc kk => hp_getR E hR in_X12 hc rfl 4 (Nat.le_of_ble_eq_true rfl) rfl q797 (fun _ h => h) dX4_isDue_10 (rfl : 10 + 3 = 13) kk) ?_
    refine hp_iload_n E hl 2 rfl 2 rfl dX4_isDue_13 (rfl : 13 + 1 = 14) ?_
    refine hp_fi (hp_rV E hR hl (m_X4_livesIn G _ _ _ _ _ hc0 h) hc0 (ci := 3) rfl rfl q1009 q1010 q1011 q79 q1012 nf_X4_livesIn ⟨Nat.le_of_ble_eq_true rfl, Nat.le_of_ble_eq_true rfl⟩ (rest := []) rfl (Nat.le_of_ble_eq_true rfl) dX4_isDue_14 ⟨Nat.le_of_ble_eq_true rfl, Nat.le_of_ble_eq_true rfl⟩) hR (rfl : 14 + 3 = 17) (fun z2 Sx H locs hq hR => ?_)
    obtain ⟨hSx, h⟩ := hq
    rw [hSx] at hR
    refine hp_if_ne E dX4_isDue_17 (rfl : 17 + 3 = 20) (tgt := 39) (by decide) (fun hb => ?_) (fun hb => ?_)
    · have h := h.1 hb
      refine hp_aload_n E hl 1 rfl 1 rfl dX4_isDue_20 (rfl : 20 + 1 = 21) ?_
      (try unfold hp_virt at h)
      refine hp_fa (hp_el2 hc1 (fun hc => hp_rV E hR hl (m_X11_second G _ _ _ hc (h.1 hc)) hc (ci := 10) rfl rfl q1013 q1014 q1015 q97 q1020 nf_X11_second ⟨Nat.le_of_ble_eq_true rfl, Nat.le_of_ble_eq_true rfl⟩ (rest := []) rfl (Nat.le_of_ble_eq_true rfl) dX4_isDue_21 ⟨Nat.le_of_ble_eq_true rfl, Nat.le_of_ble_eq_true rfl⟩) (fun hc => hp_rU E hR hl (m_X12_second G _ _ _ hc (h.2 hc)) hc (ci := 11) rfl q1013 q1018 q1017 q98 q1019 q1016 q1014 q1020 nf_X11_second ⟨Nat.le_of_ble_eq_true rfl, Nat.le_of_ble_eq_true rfl⟩ (rest := []) rfl (Nat.le_of_ble_eq_true rfl) dX4_isDue_21 ⟨Nat.le_of_ble_eq_true rfl, Nat.le_of_ble_eq_true rfl⟩)) hR (rfl : 21 + 3 = 24) (fun z3 Sx H locs hq hR => ?_)
      obtain ⟨hSx, h⟩ := hq
      rw [hSx] at hR
      refine hp_ifnull E dX4_isDue_24 (rfl : 24 + 3 = 27) (tgt := 43) (by decide) (fun hb => ?_) (fun hb => ?_)
      · have h := h.1 hb
        exact b43 _ _ _ h (lv_sub hl [] rfl) hR
      · have h := h.2 hb
        refine hp_aload_n E hl 0 rfl 0 rfl dX4_isDue_27 (rfl : 27 + 1 = 28) ?_
        refine hp_aload_n E hl 1 rfl 1 rfl dX4_isDue_28 (rfl : 28 + 1 = 29) ?_
        (try unfold hp_virt at h)
        refine hp_fa (hp_el2 hc1 (fun hc => hp_rV E hR hl (m_X11_second G _ _ _ hc (h.1 hc)) hc (ci := 10) rfl rfl q1013 q1014 q1015 q97 q1020 nf_X11_second ⟨Nat.le_of_ble_eq_true rfl, Nat.le_of_ble_eq_true rfl⟩ (rest := [hp_v B o]) rfl (Nat.le_of_ble_eq_true rfl) dX4_isDue_29 ⟨Nat.le_of_ble_eq_true rfl, Nat.le_of_ble_eq_true rfl⟩) (fun hc => hp_rU E hR hl (m_X12_second G _ _ _ hc (h.2 hc)) hc (ci := 11) rfl q1013 q1018 q1017 q98 q1019 q1016 q1014 q1020 nf_X11_second ⟨Nat.le_of_ble_eq_true rfl, Nat.le_of_ble_eq_true rfl⟩ (rest := [hp_v B o]) rfl (Nat.le_of_ble_eq_true rfl) dX4_isDue_29 ⟨Nat.le_of_ble_eq_true rfl, Nat.le_of_ble_eq_true rfl⟩)) hR (rfl : 29 + 3 = 32) (fun z5 Sx H locs hq hR => ?_)
        obtain ⟨hSx, h⟩ := hq
        rw [hSx] at hR
        refine hp_iload_n E hl 2 rfl 2 rfl dX4_isDue_32 (rfl : 32 + 1 = 33) ?_
        refine hp_fi (hp_rV E hR hl (m_X4_livesIn G _ _ _ _ _ hc0 h) hc0 (ci := 3) rfl rfl q1009 q1010 q1011 q79 q1012 nf_X4_livesIn ⟨Nat.le_of_ble_eq_true rfl, Nat.le_of_ble_eq_true rfl⟩ (rest := []) rfl (Nat.le_of_ble_eq_true rfl) dX4_isDue_33 ⟨Nat.le_of_ble_eq_true rfl, Nat.le_of_ble_eq_true rfl⟩) hR (rfl : 33 + 3 = 36) (fun z7 Sx H locs hq hR => ?_)
        obtain ⟨hSx, h⟩ := hq
        rw [hSx] at hR
        refine hp_if_eq E dX4_isDue_36 (rfl : 36 + 3 = 39) (tgt := 43) (by decide) (fun hb => ?_) (fun hb => ?_)
        · have h := h.1 hb
          exact b43 _ _ _ h (lv_sub hl [] rfl) hR
        · have h := h.2 hb
          exact b39 _ _ _ h (lv_sub hl [] rfl) hR
    · have h := h.2 hb
      exact b39 _ _ _ h (lv_sub hl [] rfl) hR
def wb_X4_isGood_53 (o : Nat) (a1 : Nat) (a2 : Int32) (t0 : Int32) (S : hp_St) (Q : Int32 → Prop) : Prop := (t0 = 0 ∨ t0 = 1) ∧ Q t0
def wb_X4_isGood_52 (o : Nat) (a1 : Nat) (a2 : Int32) (S : hp_St) (Q : Int32 → Prop) : Prop := wb_X4_isGood_53 o a1 a2 (0 : Int32) S Q
def wb_X4_isGood_48 (o : Nat) (a1 : Nat) (a2 : Int32) (S : hp_St) (Q : Int32 → Prop) : Prop := wb_X4_isGood_53 o a1 a2 (1 : Int32) S Q
def wp_X4_isGood (o : Nat) (a1 : Nat) (a2 : Int32) (S : hp_St) (Q : Int32 → Prop) : Prop := (st_C S a1 = 10) ∧ (st_C S (st_R S o 1) = 56) ∧ (vp_in (st_I S a1 0) (st_L S (st_R S o 1))) ∧ (st_C S (st_R S (st_R S o 1) (st_I S a1 0).toNatClampNeg) = 51) ∧ (vp_in a2 (st_L S (st_R S (st_R S o 1) (st_I S a1 0).toNatClampNeg))) ∧ ((((st_I S (st_R S (st_R S o 1) (st_I S a1 0).toNatClampNeg) a2.toNatClampNeg) = 0) → wb_X4_isGood_52 o a1 a2 S Q) ∧ ((¬ ((st_I S (st_R S (st_R S o 1) (st_I S a1 0).toNatClampNeg) a2.toNatClampNeg) = 0)) → (((a2 < (st_I S a1 1)) → wb_X4_isGood_52 o a1 a2 S Q) ∧ ((¬ (a2 < (st_I S a1 1))) → (st_C S (st_R S o 0) = 50) ∧ (vp_in (st_I S a1 0) (st_L S (st_R S o 0))) ∧ ((((st_I S (st_R S o 0) (st_I S a1 0).toNatClampNeg) = (-1 : Int32)) → wb_X4_isGood_48 o a1 a2 S Q) ∧ ((¬ ((st_I S (st_R S o 0) (st_I S a1 0).toNatClampNeg) = (-1 : Int32))) → (vp_in (st_I S a1 0) (st_L S (st_R S o 0))) ∧ (((a2 ≤ (st_I S (st_R S o 0) (st_I S a1 0).toNatClampNeg)) → wb_X4_isGood_48 o a1 a2 S Q) ∧ ((¬ (a2 ≤ (st_I S (st_R S o 0) (st_I S a1 0).toNatClampNeg))) → wb_X4_isGood_52 o a1 a2 S Q))))))))
theorem nf_X4_isGood : hp_nf yX4_isGood 2 = true := by decide +kernel
set_option maxHeartbeats 4000000 in
theorem m_X4_isGood {l : Launch} {B : Nat} {D : va_G} {s0 : State} {b0 : Nat} (G : hp_G l B D s0 b0) (o : Nat) (a1 : Nat) (a2 : Int32) (Si : hp_St) (Q : Int32 → Prop) (hc0 : st_C Si o = 4) (h : wp_X4_isGood o a1 a2 Si Q) : hp_M l B D s0 yX4_isGood cX4_isGood 3 (some .boolean) 2 128 0 0 [hp_v B o, hp_v B a1, .int a2] Si (hp_Qi B D s0 (fun r S' => S' = Si ∧ Q r)) := by
  refine hp_start G (by decide +kernel) rfl rfl (lv := [(0, hp_v B o), (1, hp_v B a1), (2, .int a2)]) (by simp [lg_sl, hp_vc, hp_ci, hp_cj]) (by simp [lv_args, hp_vc, hp_ci, hp_cj]) ?_
  intro p e s m args below meth c E ls hl hR
  generalize hH : s.heap = H at hR ⊢
  generalize hLo : ([] : List Loc) = locs at hR ⊢
  have b53 : ∀ (t0 : Int32) (H : Heap) (locs : List Loc) (ls : Array Slot), wb_X4_isGood_53 o a1 a2 t0 Si Q → lv_has ls 3 [] → hp_S B D s0 Si H locs → W p l e ({ frames := 2, cells := 0, slots := 0, locals := 128 } : Room) s m args below meth c H locs 0 0 (MQ below (hp_Qi B D s0 (fun r S' => S' = Si ∧ Q r)) args s 0 0 (fun q => B < q)) (F0 m 53 ls [.int t0]) := by
    intro t0 H locs ls h hl hR
    unfold wb_X4_isGood_53 at h
    obtain ⟨hz5301, h⟩ := h
    exact hp_zret E hR hz5301 ⟨rfl, h⟩ (Nat.le_of_ble_eq_true rfl) (Nat.le_of_ble_eq_true rfl) dX4_isGood_53
  have b52 : ∀ (H : Heap) (locs : List Loc) (ls : Array Slot), wb_X4_isGood_52 o a1 a2 Si Q → lv_has ls 3 [] → hp_S B D s0 Si H locs → W p l e ({ frames := 2, cells := 0, slots := 0, locals := 128 } : Room) s m args below meth c H locs 0 0 (MQ below (hp_Qi B D s0 (fun r S' => S' = Si ∧ Q r)) args s 0 0 (fun q => B < q)) (F0 m 52 ls []) := by
    intro  H locs ls h hl hR
    unfold wb_X4_isGood_52 at h
    refine hp_iconst E (0 : Int32) (by decide) dX4_isGood_52 (rfl : 52 + 1 = 53) ?_
    exact b53 _ _ _ _ h hl hR
  have b48 : ∀ (H : Heap) (locs : List Loc) (ls : Array Slot), wb_X4_isGood_48 o a1 a2 Si Q → lv_has ls 3 [] → hp_S B D s0 Si H locs → W p l e ({ frames := 2, cells := 0, slots := 0, locals := 128 } : Room) s m args below meth c H locs 0 0 (MQ below (hp_Qi B D s0 (fun r S' => S' = Si ∧ Q r)) args s 0 0 (fun q => B < q)) (F0 m 48 ls []) := by
    intro  H locs ls h hl hR
    unfold wb_X4_isGood_48 at h
    refine hp_iconst E (1 : Int32) (by decide) dX4_isGood_48 (rfl : 48 + 1 = 49) ?_
    refine hp_goto E (tgt := 53) dX4_isGood_49 (by decide) ?_
    exact b53 _ _ _ _ h hl hR
  unfold wp_X4_isGood at h
  refine hp_aload_n E hl 0 rfl 0 rfl dX4_isGood_0 (rfl : 0 + 1 = 1) ?_
  refine hp_getR E hR in_X4 hc0 rfl 1 (Nat.le_of_ble_eq_true rfl) rfl q232 (fun _ h => h) dX4_isGood_1 (rfl : 1 + 3 = 4) ?_
  refine hp_aload_n E hl 1 rfl 1 rfl dX4_isGood_4 (rfl : 4 + 1 = 5) ?_
  obtain ⟨hc1, h⟩ := h
  refine hp_getIN E hR in_X10 hc1 rfl 0 (Nat.le_of_ble_eq_true rfl) rfl q701 (fun _ h => h) dX4_isGood_5 (rfl : 5 + 3 = 8) ?_
  obtain ⟨hc2, h⟩ := h
  obtain ⟨hi3, h⟩ := h
  refine hp_aald E hR (Or.inr (Or.inr hc2)) hi3 dX4_isGood_8 (rfl : 8 + 1 = 9) ?_
  refine hp_iload_n E hl 2 rfl 2 rfl dX4_isGood_9 (rfl : 9 + 1 = 10) ?_
  obtain ⟨hc4, h⟩ := h
  obtain ⟨hi5, h⟩ := h
  refine hp_zald E hR hc4 hi5 dX4_isGood_10 (rfl : 10 + 1 = 11) ?_
  refine hp_if_eq E dX4_isGood_11 (rfl : 11 + 3 = 14) (tgt := 52) (by decide) (fun hb => ?_) (fun hb => ?_)
  · have h := h.1 hb
    exact b52 _ _ _ h (lv_sub hl [] rfl) hR
  · have h := h.2 hb
    refine hp_iload_n E hl 2 rfl 2 rfl dX4_isGood_14 (rfl : 14 + 1 = 15) ?_
    refine hp_aload_n E hl 1 rfl 1 rfl dX4_isGood_15 (rfl : 15 + 1 = 16) ?_
    refine hp_getIN E hR in_X10 hc1 rfl 1 (Nat.le_of_ble_eq_true rfl) rfl q706 (fun _ h => h) dX4_isGood_16 (rfl : 16 + 3 = 19) ?_
    refine hp_icmp_lt E dX4_isGood_19 (rfl : 19 + 3 = 22) (tgt := 52) (by decide) (fun hb => ?_) (fun hb => ?_)
    · have h := h.1 hb
      exact b52 _ _ _ h (lv_sub hl [] rfl) hR
    · have h := h.2 hb
      refine hp_aload_n E hl 0 rfl 0 rfl dX4_isGood_22 (rfl : 22 + 1 = 23) ?_
      refine hp_getR E hR in_X4 hc0 rfl 0 (Nat.le_of_ble_eq_true rfl) rfl q226 (fun _ h => h) dX4_isGood_23 (rfl : 23 + 3 = 26) ?_
      refine hp_aload_n E hl 1 rfl 1 rfl dX4_isGood_26 (rfl : 26 + 1 = 27) ?_
      refine hp_getIN E hR in_X10 hc1 rfl 0 (Nat.le_of_ble_eq_true rfl) rfl q701 (fun _ h => h) dX4_isGood_27 (rfl : 27 + 3 = 30) ?_
      obtain ⟨hc6, h⟩ := h
      obtain ⟨hi7, h⟩ := h
      refine hp_iald E hR hc6 hi7 dX4_isGood_30 (rfl : 30 + 1 = 31) ?_
      refine hp_iconst E (-1 : Int32) (by decide) dX4_isGood_31 (rfl : 31 + 1 = 32) ?_
      refine hp_icmp_eq E dX4_isGood_32 (rfl : 32 + 3 = 35) (tgt := 48) (by decide) (fun hb => ?_) (fun hb => ?_)
      · have h := h.1 hb
        exact b48 _ _ _ h (lv_sub hl [] rfl) hR
      · have h := h.2 hb
        refine hp_iload_n E hl 2 rfl 2 rfl dX4_isGood_35 (rfl : 35 + 1 = 36) ?_
        refine hp_aload_n E hl 0 rfl 0 rfl dX4_isGood_36 (rfl : 36 + 1 = 37) ?_
        refine hp_getR E hR in_X4 hc0 rfl 0 (Nat.le_of_ble_eq_true rfl) rfl q226 (fun _ h => h) dX4_isGood_37 (rfl : 37 + 3 = 40) ?_
        refine hp_aload_n E hl 1 rfl 1 rfl dX4_isGood_40 (rfl : 40 + 1 = 41) ?_
        refine hp_getIN E hR in_X10 hc1 rfl 0 (Nat.le_of_ble_eq_true rfl) rfl q701 (fun _ h => h) dX4_isGood_41 (rfl : 41 + 3 = 44) ?_
        obtain ⟨hi8, h⟩ := h
        refine hp_iald E hR hc6 hi8 dX4_isGood_44 (rfl : 44 + 1 = 45) ?_
        refine hp_icmp_gt E dX4_isGood_45 (rfl : 45 + 3 = 48) (tgt := 52) (by decide) (fun hb => ?_) (fun hb => ?_)
        · have h := h.1 hb
          exact b48 _ _ _ h (lv_sub hl [] rfl) hR
        · have h := h.2 hb
          exact b52 _ _ _ h (lv_sub hl [] rfl) hR
def wb_X4_isProved_2_41 (o : Nat) (a1 : Nat) (a2 : Int32) (S : hp_St) (Q : Int32 → Prop) : Prop := Q (0 : Int32)
def wb_X4_isProved_2_2 (o : Nat) (a1 : Nat) (a2 : Int32) (v3 : Int32) (S : hp_St) (K2 : Int32 → Prop) (Q : Int32 → Prop) : Prop := (st_C S (st_R S o 4) = 1) ∧ (st_C S (st_R S (st_R S o 4) 7) = 3) ∧ (((v3 ≤ (a2 + (st_I S (st_R S (st_R S o 4) 7) 2))) → (((v3 < (80 : Int32)) → wp_X4_isGood o a1 v3 S (fun z203 => (((z203 = 0) → K2 (v3 + (1 : Int32))) ∧ ((¬ (z203 = 0)) → Q (1 : Int32))))) ∧ ((¬ (v3 < (80 : Int32))) → wb_X4_isProved_2_41 o a1 a2 S Q))) ∧ ((¬ (v3 ≤ (a2 + (st_I S (st_R S (st_R S o 4) 7) 2)))) → wb_X4_isProved_2_41 o a1 a2 S Q))
def wl_X4_isProved_2_2 (o : Nat) (a1 : Nat) (a2 : Int32) (v3 : Int32) (S : hp_St) (Q : Int32 → Prop) : Prop := ∃ (I : Int32 → Prop) (μ : Int32 → Nat), I v3 ∧ ∀ (v3 : Int32), I v3 → wb_X4_isProved_2_2 o a1 a2 v3 S (fun v3' => I v3' ∧ μ v3' < μ v3) Q
def wp_X4_isProved_2 (o : Nat) (a1 : Nat) (a2 : Int32) (S : hp_St) (Q : Int32 → Prop) : Prop := wl_X4_isProved_2_2 o a1 a2 a2 S Q
theorem nf_X4_isProved_2 : hp_nf yX4_isProved_2 2 = true := by decide +kernel
set_option maxHeartbeats 4000000 in
theorem m_X4_isProved_2 {l : Launch} {B : Nat} {D : va_G} {s0 : State} {b0 : Nat} (G : hp_G l B D s0 b0) (o : Nat) (a1 : Nat) (a2 : Int32) (Si : hp_St) (Q : Int32 → Prop) (hc0 : st_C Si o = 4) (h : wp_X4_isProved_2 o a1 a2 Si Q) : hp_M l B D s0 yX4_isProved_2 cX4_isProved_2 4 (some .boolean) 3 192 0 0 [hp_v B o, hp_v B a1, .int a2] Si (hp_Qi B D s0 (fun r S' => S' = Si ∧ Q r)) := by
  refine hp_start G (by decide +kernel) rfl rfl (lv := [(0, hp_v B o), (1, hp_v B a1), (2, .int a2)]) (by simp [lg_sl, hp_vc, hp_ci, hp_cj]) (by simp [lv_args, hp_vc, hp_ci, hp_cj]) ?_
  intro p e s m args below meth c E ls hl hR
  generalize hH : s.heap = H at hR ⊢
  generalize hLo : ([] : List Loc) = locs at hR ⊢
  have b41 : ∀ (H : Heap) (locs : List Loc) (ls : Array Slot), wb_X4_isProved_2_41 o a1 a2 Si Q → lv_has ls 4 [] → hp_S B D s0 Si H locs → W p l e ({ frames := 3, cells := 0, slots := 0, locals := 192 } : Room) s m args below meth c H locs 0 0 (MQ below (hp_Qi B D s0 (fun r S' => S' = Si ∧ Q r)) args s 0 0 (fun q => B < q)) (F0 m 41 ls []) := by
    intro  H locs ls h hl hR
    unfold wb_X4_isProved_2_41 at h
    refine hp_iconst E (0 : Int32) (by decide) dX4_isProved_2_41 (rfl : 41 + 1 = 42) ?_
    exact hp_zret E hR (Or.inl rfl) ⟨rfl, h⟩ (Nat.le_of_ble_eq_true rfl) (Nat.le_of_ble_eq_true rfl) dX4_isProved_2_42
  have b2 : ∀ (v3 : Int32) (H : Heap) (locs : List Loc) (ls : Array Slot), wl_X4_isProved_2_2 o a1 a2 v3 Si Q → lv_has ls 4 [(0, hp_v B o), (1, hp_v B a1), (2, .int a2), (3, .int v3)] → hp_S B D s0 Si H locs → W p l e ({ frames := 3, cells := 0, slots := 0, locals := 192 } : Room) s m args below meth c H locs 0 0 (MQ below (hp_Qi B D s0 (fun r S' => S' = Si ∧ Q r)) args s 0 0 (fun q => B < q)) (F0 m 2 ls []) := by
    intro v3 H locs ls h hl hR
    obtain ⟨I2, μ2, hI, hst⟩ := h
    have key2 : ∀ (N : Nat) (v3 : Int32) (H : Heap) (locs : List Loc) (ls : Array Slot), μ2 v3 < N → I2 v3 → lv_has ls 4 [(0, hp_v B o), (1, hp_v B a1), (2, .int a2), (3, .int v3)] → hp_S B D s0 Si H locs → W p l e ({ frames := 3, cells := 0, slots := 0, locals := 192 } : Room) s m args below meth c H locs 0 0 (MQ below (hp_Qi B D s0 (fun r S' => S' = Si ∧ Q r)) args s 0 0 (fun q => B < q)) (F0 m 2 ls []) := by
      intro N
      induction N with
      | zero =>
        intro v3 H locs ls hN
        exact absurd hN (Nat.not_lt_zero _)
      | succ N ih2 =>
        intro v3 H locs ls hN hI hl hR
        have h := hst v3 hI
        obtain ⟨K2, hKe2⟩ : ∃ K : Int32 → Prop, K = (fun v3' => I2 v3' ∧ μ2 v3' < μ2 v3) := ⟨_, rfl⟩
        rw [← hKe2] at h
        have hK2 : ∀ (v3' : Int32) (H : Heap) (locs : List Loc) (ls : Array Slot), K2 v3' → lv_has ls 4 [(0, hp_v B o), (1, hp_v B a1), (2, .int a2), (3, .int (v3'))] → hp_S B D s0 Si H locs → W p l e ({ frames := 3, cells := 0, slots := 0, locals := 192 } : Room) s m args below meth c H locs 0 0 (MQ below (hp_Qi B D s0 (fun r S' => S' = Si ∧ Q r)) args s 0 0 (fun q => B < q)) (F0 m 2 ls []) := by
          intro v3' H locs ls hI hl hR
          rw [hKe2] at hI
          exact ih2 v3' H locs ls (Nat.lt_of_lt_of_le hI.2 (Nat.le_of_lt_succ hN)) hI.1 hl hR
        unfold wb_X4_isProved_2_2 at h
        refine hp_iload_n E hl 3 rfl 3 rfl dX4_isProved_2_2 (rfl : 2 + 1 = 3) ?_
        refine hp_iload_n E hl 2 rfl 2 rfl dX4_isProved_2_3 (rfl : 3 + 1 = 4) ?_
        refine hp_aload_n E hl 0 rfl 0 rfl dX4_isProved_2_4 (rfl : 4 + 1 = 5) ?_
        refine hp_getR E hR in_X4 hc0 rfl 4 (Nat.le_of_ble_eq_true rfl) rfl q237 (fun _ h => h) dX4_isProved_2_5 (rfl : 5 + 3 = 8) ?_
        obtain ⟨hc201, h⟩ := h
        refine hp_getRN E hR in_X1 hc201 rfl 7 (Nat.le_of_ble_eq_true rfl) rfl q325 (fun _ h => h) dX4_isProved_2_8 (rfl : 8 + 3 = 11) ?_
        obtain ⟨hc202, h⟩ := h
        refine hp_getIN E hR in_X3 hc202 rfl 2 (Nat.le_of_ble_eq_true rfl) rfl q189 (fun _ h => h) dX4_isProved_2_11 (rfl : 11 + 3 = 14) ?_
        refine hp_iadd E dX4_isProved_2_14 (rfl : 14 + 1 = 15) ?_
        refine hp_icmp_gt E dX4_isProved_2_15 (rfl : 15 + 3 = 18) (tgt := 41) (by decide) (fun hb => ?_) (fun hb => ?_)
        · have h := h.1 hb
          refine hp_iload_n E hl 3 rfl 3 rfl dX4_isProved_2_18 (rfl : 18 + 1 = 19) ?_
          refine hp_bipush E (80 : Int32) (by decide) dX4_isProved_2_19 (rfl : 19 + 2 = 21) ?_
          refine hp_icmp_ge E dX4_isProved_2_21 (rfl : 21 + 3 = 24) (tgt := 41) (by decide) (fun hb => ?_) (fun hb => ?_)
          · have h := h.1 hb
            refine hp_aload_n E hl 0 rfl 0 rfl dX4_isProved_2_24 (rfl : 24 + 1 = 25) ?_
            refine hp_aload_n E hl 1 rfl 1 rfl dX4_isProved_2_25 (rfl : 25 + 1 = 26) ?_
            refine hp_iload_n E hl 3 rfl 3 rfl dX4_isProved_2_26 (rfl : 26 + 1 = 27) ?_
            refine hp_fi (hp_rV E hR hl (m_X4_isGood G _ _ _ _ _ hc0 h) hc0 (ci := 3) rfl rfl q1029 q1031 qs21 q79 q1032 nf_X4_isGood ⟨Nat.le_of_ble_eq_true rfl, Nat.le_of_ble_eq_true rfl⟩ (rest := []) rfl (Nat.le_of_ble_eq_true rfl) dX4_isProved_2_27 ⟨Nat.le_of_ble_eq_true rfl, Nat.le_of_ble_eq_true rfl⟩) hR (rfl : 27 + 3 = 30) (fun z203 Sx H locs hq hR => ?_)
            obtain ⟨hSx, h⟩ := hq
            rw [hSx] at hR
            refine hp_if_eq E dX4_isProved_2_30 (rfl : 30 + 3 = 33) (tgt := 35) (by decide) (fun hb => ?_) (fun hb => ?_)
            · have h := h.1 hb
              refine hp_iinc E hl (v3 + (1 : Int32)) 3 (lv' := [(0, hp_v B o), (1, hp_v B a1), (2, .int a2)]) dX4_isProved_2_35 (rfl : 35 + 3 = 38) rfl (by first | rfl | (congr 1)) (by decide) rfl (fun ls hl => ?_)
              refine hp_goto E (tgt := 2) dX4_isProved_2_38 (by decide) ?_
              exact hK2 _ _ _ _ h (lv_sub hl [1, 2, 3, 0] rfl) hR
            · have h := h.2 hb
              refine hp_iconst E (1 : Int32) (by decide) dX4_isProved_2_33 (rfl : 33 + 1 = 34) ?_
              exact hp_zret E hR (Or.inr rfl) ⟨rfl, h⟩ (Nat.le_of_ble_eq_true rfl) (Nat.le_of_ble_eq_true rfl) dX4_isProved_2_34
          · have h := h.2 hb
            exact b41 _ _ _ h (lv_sub hl [] rfl) hR
        · have h := h.2 hb
          exact b41 _ _ _ h (lv_sub hl [] rfl) hR
    exact key2 (μ2 v3 + 1) v3 H locs ls (Nat.lt_succ_self _) hI hl hR
  unfold wp_X4_isProved_2 at h
  refine hp_iload_n E hl 2 rfl 2 rfl dX4_isProved_2_0 (rfl : 0 + 1 = 1) ?_
  refine hp_istore_n E hl 3 rfl (lv' := [(0, hp_v B o), (1, hp_v B a1), (2, .int a2)]) dX4_isProved_2_1 (rfl : 1 + 1 = 2) (by decide) rfl (fun ls hl => ?_)
  exact b2 _ _ _ _ h (lv_sub hl [1, 2, 3, 0] rfl) hR
def wb_X4_isProved_36 (o : Nat) (a1 : Nat) (a2 : Int32) (t0 : Int32) (S : hp_St) (Q : Int32 → Prop) : Prop := (t0 = 0 ∨ t0 = 1) ∧ Q t0
def wb_X4_isProved_31 (o : Nat) (a1 : Nat) (a2 : Int32) (S : hp_St) (Q : Int32 → Prop) : Prop := wb_X4_isProved_36 o a1 a2 (1 : Int32) S Q
def wb_X4_isProved_35 (o : Nat) (a1 : Nat) (a2 : Int32) (S : hp_St) (Q : Int32 → Prop) : Prop := wb_X4_isProved_36 o a1 a2 (0 : Int32) S Q
def wp_X4_isProved (o : Nat) (a1 : Nat) (a2 : Int32) (S : hp_St) (Q : Int32 → Prop) : Prop := (st_C S a1 = 11 ∨ st_C S a1 = 12) ∧ wp_X4_isProved_2 o (st_R S a1 4) a2 S (fun z2 => (((z2 = 0) → hp_virt (fun Kc4 => (st_C S a1 = 11 → wp_X11_second a1 S Kc4) ∧ (st_C S a1 = 12 → wp_X12_second a1 S Kc4)) (fun z3 => (((z3 = 0) → wb_X4_isProved_35 o a1 a2 S Q) ∧ ((¬ (z3 = 0)) → hp_virt (fun Kc6 => (st_C S a1 = 11 → wp_X11_second a1 S Kc6) ∧ (st_C S a1 = 12 → wp_X12_second a1 S Kc6)) (fun z5 => wp_X4_isProved_2 o z5 a2 S (fun z7 => (((z7 = 0) → wb_X4_isProved_35 o a1 a2 S Q) ∧ ((¬ (z7 = 0)) → wb_X4_isProved_31 o a1 a2 S Q)))))))) ∧ ((¬ (z2 = 0)) → wb_X4_isProved_31 o a1 a2 S Q)))
theorem nf_X4_isProved : hp_nf yX4_isProved 2 = true := by decide +kernel
set_option maxHeartbeats 4000000 in
theorem m_X4_isProved {l : Launch} {B : Nat} {D : va_G} {s0 : State} {b0 : Nat} (G : hp_G l B D s0 b0) (o : Nat) (a1 : Nat) (a2 : Int32) (Si : hp_St) (Q : Int32 → Prop) (hc0 : st_C Si o = 4) (h : wp_X4_isProved o a1 a2 Si Q) : hp_M l B D s0 yX4_isProved cX4_isProved 3 (some .boolean) 4 256 0 0 [hp_v B o, hp_v B a1, .int a2] Si (hp_Qi B D s0 (fun r S' => S' = Si ∧ Q r)) := by
  refine hp_start G (by decide +kernel) rfl rfl (lv := [(0, hp_v B o), (1, hp_v B a1), (2, .int a2)]) (by simp [lg_sl, hp_vc, hp_ci, hp_cj]) (by simp [lv_args, hp_vc, hp_ci, hp_cj]) ?_
  intro p e s m args below meth c E ls hl hR
  generalize hH : s.heap = H at hR ⊢
  generalize hLo : ([] : List Loc) = locs at hR ⊢
  have b36 : ∀ (t0 : Int32) (H : Heap) (locs : List Loc) (ls : Array Slot), wb_X4_isProved_36 o a1 a2 t0 Si Q → lv_has ls 3 [] → hp_S B D s0 Si H locs → W p l e ({ frames := 4, cells := 0, slots := 0, locals := 256 } : Room) s m args below meth c H locs 0 0 (MQ below (hp_Qi B D s0 (fun r S' => S' = Si ∧ Q r)) args s 0 0 (fun q => B < q)) (F0 m 36 ls [.int t0]) := by
    intro t0 H locs ls h hl hR
    unfold wb_X4_isProved_36 at h
    obtain ⟨hz3601, h⟩ := h
    exact hp_zret E hR hz3601 ⟨rfl, h⟩ (Nat.le_of_ble_eq_true rfl) (Nat.le_of_ble_eq_true rfl) dX4_isProved_36
  have b31 : ∀ (H : Heap) (locs : List Loc) (ls : Array Slot), wb_X4_isProved_31 o a1 a2 Si Q → lv_has ls 3 [] → hp_S B D s0 Si H locs → W p l e ({ frames := 4, cells := 0, slots := 0, locals := 256 } : Room) s m args below meth c H locs 0 0 (MQ below (hp_Qi B D s0 (fun r S' => S' = Si ∧ Q r)) args s 0 0 (fun q => B < q)) (F0 m 31 ls []) := by
    intro  H locs ls h hl hR
    unfold wb_X4_isProved_31 at h
    refine hp_iconst E (1 : Int32) (by decide) dX4_isProved_31 (rfl : 31 + 1 = 32) ?_
    refine hp_goto E (tgt := 36) dX4_isProved_32 (by decide) ?_
    exact b36 _ _ _ _ h hl hR
  have b35 : ∀ (H : Heap) (locs : List Loc) (ls : Array Slot), wb_X4_isProved_35 o a1 a2 Si Q → lv_has ls 3 [] → hp_S B D s0 Si H locs → W p l e ({ frames := 4, cells := 0, slots := 0, locals := 256 } : Room) s m args below meth c H locs 0 0 (MQ below (hp_Qi B D s0 (fun r S' => S' = Si ∧ Q r)) args s 0 0 (fun q => B < q)) (F0 m 35 ls []) := by
    intro  H locs ls h hl hR
    unfold wb_X4_isProved_35 at h
    refine hp_iconst E (0 : Int32) (by decide) dX4_isProved_35 (rfl : 35 + 1 = 36) ?_
    exact b36 _ _ _ _ h hl hR
  unfold wp_X4_isProved at h
  refine hp_aload_n E hl 0 rfl 0 rfl dX4_isProved_0 (rfl : 0 + 1 = 1) ?_
  refine hp_aload_n E hl 1 rfl 1 rfl dX4_isProved_1 (rfl : 1 + 1 = 2) ?_
  obtain ⟨hc1, h⟩ := h
  refine hp_or2 hc1 (fun hc kk => hp_getR E hR in_X11 hc rfl 4 (Nat.le_of_ble_eq_true rfl) rfl q797 (fun _ h => h) dX4_isProved_2 (rfl : 2 + 3 = 5) kk) (fun hc kk => hp_getR E hR in_X12 hc rfl 4 (Nat.le_of_ble_eq_true rfl) rfl q797 (fun _ h => h) dX4_isProved_2 (rfl : 2 + 3 = 5) kk) ?_
  refine hp_iload_n E hl 2 rfl 2 rfl dX4_isProved_5 (rfl : 5 + 1 = 6) ?_
  refine hp_fi (hp_rV E hR hl (m_X4_isProved_2 G _ _ _ _ _ hc0 h) hc0 (ci := 3) rfl rfl q1025 q1027 qs20 q79 q1028 nf_X4_isProved_2 ⟨Nat.le_of_ble_eq_true rfl, Nat.le_of_ble_eq_true rfl⟩ (rest := []) rfl (Nat.le_of_ble_eq_true rfl) dX4_isProved_6 ⟨Nat.le_of_ble_eq_true rfl, Nat.le_of_ble_eq_true rfl⟩) hR (rfl : 6 + 3 = 9) (fun z2 Sx H locs hq hR => ?_)
  obtain ⟨hSx, h⟩ := hq
  rw [hSx] at hR
  refine hp_if_ne E dX4_isProved_9 (rfl : 9 + 3 = 12) (tgt := 31) (by decide) (fun hb => ?_) (fun hb => ?_)
  · have h := h.1 hb
    refine hp_aload_n E hl 1 rfl 1 rfl dX4_isProved_12 (rfl : 12 + 1 = 13) ?_
    (try unfold hp_virt at h)
    refine hp_fa (hp_el2 hc1 (fun hc => hp_rV E hR hl (m_X11_second G _ _ _ hc (h.1 hc)) hc (ci := 10) rfl rfl q1013 q1014 q1015 q97 q1020 nf_X11_second ⟨Nat.le_of_ble_eq_true rfl, Nat.le_of_ble_eq_true rfl⟩ (rest := []) rfl (Nat.le_of_ble_eq_true rfl) dX4_isProved_13 ⟨Nat.le_of_ble_eq_true rfl, Nat.le_of_ble_eq_true rfl⟩) (fun hc => hp_rU E hR hl (m_X12_second G _ _ _ hc (h.2 hc)) hc (ci := 11) rfl q1013 q1018 q1017 q98 q1019 q1016 q1014 q1020 nf_X11_second ⟨Nat.le_of_ble_eq_true rfl, Nat.le_of_ble_eq_true rfl⟩ (rest := []) rfl (Nat.le_of_ble_eq_true rfl) dX4_isProved_13 ⟨Nat.le_of_ble_eq_true rfl, Nat.le_of_ble_eq_true rfl⟩)) hR (rfl : 13 + 3 = 16) (fun z3 Sx H locs hq hR => ?_)
    obtain ⟨hSx, h⟩ := hq
    rw [hSx] at hR
    refine hp_ifnull E dX4_isProved_16 (rfl : 16 + 3 = 19) (tgt := 35) (by decide) (fun hb => ?_) (fun hb => ?_)
    · have h := h.1 hb
      exact b35 _ _ _ h (lv_sub hl [] rfl) hR
    · have h := h.2 hb
      refine hp_aload_n E hl 0 rfl 0 rfl dX4_isProved_19 (rfl : 19 + 1 = 20) ?_
      refine hp_aload_n E hl 1 rfl 1 rfl dX4_isProved_20 (rfl : 20 + 1 = 21) ?_
      (try unfold hp_virt at h)
      refine hp_fa (hp_el2 hc1 (fun hc => hp_rV E hR hl (m_X11_second G _ _ _ hc (h.1 hc)) hc (ci := 10) rfl rfl q1013 q1014 q1015 q97 q1020 nf_X11_second ⟨Nat.le_of_ble_eq_true rfl, Nat.le_of_ble_eq_true rfl⟩ (rest := [hp_v B o]) rfl (Nat.le_of_ble_eq_true rfl) dX4_isProved_21 ⟨Nat.le_of_ble_eq_true rfl, Nat.le_of_ble_eq_true rfl⟩) (fun hc => hp_rU E hR hl (m_X12_second G _ _ _ hc (h.2 hc)) hc (ci := 11) rfl q1013 q1018 q1017 q98 q1019 q1016 q1014 q1020 nf_X11_second ⟨Nat.le_of_ble_eq_true rfl, Nat.le_of_ble_eq_true rfl⟩ (rest := [hp_v B o]) rfl (Nat.le_of_ble_eq_true rfl) dX4_isProved_21 ⟨Nat.le_of_ble_eq_true rfl, Nat.le_of_ble_eq_true rfl⟩)) hR (rfl : 21 + 3 = 24) (fun z5 Sx H locs hq hR => ?_)
      obtain ⟨hSx, h⟩ := hq
      rw [hSx] at hR
      refine hp_iload_n E hl 2 rfl 2 rfl dX4_isProved_24 (rfl : 24 + 1 = 25) ?_
      refine hp_fi (hp_rV E hR hl (m_X4_isProved_2 G _ _ _ _ _ hc0 h) hc0 (ci := 3) rfl rfl q1025 q1027 qs20 q79 q1028 nf_X4_isProved_2 ⟨Nat.le_of_ble_eq_true rfl, Nat.le_of_ble_eq_true rfl⟩ (rest := []) rfl (Nat.le_of_ble_eq_true rfl) dX4_isProved_25 ⟨Nat.le_of_ble_eq_true rfl, Nat.le_of_ble_eq_true rfl⟩) hR (rfl : 25 + 3 = 28) (fun z7 Sx H locs hq hR => ?_)
      obtain ⟨hSx, h⟩ := hq
      rw [hSx] at hR
      refine hp_if_eq E dX4_isProved_28 (rfl : 28 + 3 = 31) (tgt := 35) (by decide) (fun hb => ?_) (fun hb => ?_)
      · have h := h.1 hb
        exact b35 _ _ _ h (lv_sub hl [] rfl) hR
      · have h := h.2 hb
        exact b31 _ _ _ h (lv_sub hl [] rfl) hR
  · have h := h.2 hb
    exact b31 _ _ _ h (lv_sub hl [] rfl) hR
def wb_X1_pay_2_34 (o : Nat) (a1 : Nat) (a2 : Int32) (a3 : Int32) (S : hp_St) (Q : hp_St → Prop) : Prop := Q S
def wb_X1_pay_2_120 (o : Nat) (a1 : Nat) (a2 : Int32) (a3 : Int32) (v4 : Int32) (v5 : Int32) (v6 : Int32) (S : hp_St) (K54 : Int32 → Int32 → Int32 → hp_St → Prop) (Q : hp_St → Prop) : Prop := K54 v4 v5 (v6 + (1 : Int32)) S
def wb_X1_pay_2_54 (o : Nat) (a1 : Nat) (a2 : Int32) (a3 : Int32) (v4 : Int32) (v5 : Int32) (v6 : Int32) (S : hp_St) (K54 : Int32 → Int32 → Int32 → hp_St → Prop) (Q : hp_St → Prop) : Prop := (((v6 < (8 : Int32)) → (st_C S a1 = 11 ∨ st_C S a1 = 12) ∧ hp_virt (fun Kc5403 => (st_C S a1 = 11 → wp_X11_parts a1 v6 a3 S Kc5403) ∧ (st_C S a1 = 12 → wp_X11_parts a1 v6 a3 S Kc5403)) (fun z5402 => (st_C S (st_R S o 12) = 55) ∧ (vp_in v6 (st_L S (st_R S o 12))) ∧ (st_C S (st_R S (st_R S o 12) v6.toNatClampNeg) = 50) ∧ (vp_in a3 (st_L S (st_R S (st_R S o 12) v6.toNatClampNeg))) ∧ (vp_in a3 (st_L S (st_R S (st_R S o 12) v6.toNatClampNeg))) ∧ (∀ S5409, S5409 = st_pI S (st_R S (st_R S o 12) v6.toNatClampNeg) a3.toNatClampNeg ((st_I S (st_R S (st_R S o 12) v6.toNatClampNeg) a3.toNatClampNeg) + (((st_I S a1 2) * z5402) / (60 : Int32))) → hp_virt (fun Kc5413 => (st_C S5409 a1 = 11 → wp_X11_parts a1 v6 a3 S5409 Kc5413) ∧ (st_C S5409 a1 = 12 → wp_X11_parts a1 v6 a3 S5409 Kc5413)) (fun z5412 => hp_virt (fun Kc5415 => (st_C S5409 a1 = 11 → wp_X11_parts a1 v5 a3 S5409 Kc5415) ∧ (st_C S5409 a1 = 12 → wp_X11_parts a1 v5 a3 S5409 Kc5415)) (fun z5414 => (((z5412 ≤ z5414) → wb_X1_pay_2_120 o a1 a2 a3 (v4 - (((st_I S a1 2) * z5402) / (60 : Int32))) v5 v6 S5409 K54 Q) ∧ ((¬ (z5412 ≤ z5414)) → wb_X1_pay_2_120 o a1 a2 a3 (v4 - (((st_I S a1 2) * z5402) / (60 : Int32))) v6 v6 S5409 K54 Q))))))) ∧ ((¬ (v6 < (8 : Int32))) → (st_C S (st_R S o 12) = 55) ∧ (vp_in v5 (st_L S (st_R S o 12))) ∧ (st_C S (st_R S (st_R S o 12) v5.toNatClampNeg) = 50) ∧ (vp_in a3 (st_L S (st_R S (st_R S o 12) v5.toNatClampNeg))) ∧ (vp_in a3 (st_L S (st_R S (st_R S o 12) v5.toNatClampNeg))) ∧ (∀ S5421, S5421 = st_pI S (st_R S (st_R S o 12) v5.toNatClampNeg) a3.toNatClampNeg ((st_I S (st_R S (st_R S o 12) v5.toNatClampNeg) a3.toNatClampNeg) + v4) → Q S5421)))
def wl_X1_pay_2_54 (o : Nat) (a1 : Nat) (a2 : Int32) (a3 : Int32) (v4 : Int32) (v5 : Int32) (v6 : Int32) (S : hp_St) (Q : hp_St → Prop) : Prop := ∃ (I : Int32 → Int32 → Int32 → hp_St → Prop) (μ : Int32 → Int32 → Int32 → hp_St → Nat), I v4 v5 v6 S ∧ ∀ (v4 : Int32) (v5 : Int32) (v6 : Int32) (S1 : hp_St), hp_mono S S1 → I v4 v5 v6 S1 → wb_X1_pay_2_54 o a1 a2 a3 v4 v5 v6 S1 (fun v4' v5' v6' S2 => I v4' v5' v6' S2 ∧ μ v4' v5' v6' S2 < μ v4 v5 v6 S1) Q
def wp_X1_pay_2 (o : Nat) (a1 : Nat) (a2 : Int32) (a3 : Int32) (S : hp_St) (Q : hp_St → Prop) : Prop := (st_C S a1 = 11 ∨ st_C S a1 = 12) ∧ (st_C S (st_R S a1 5) = 50) ∧ (vp_in a2 (st_L S (st_R S a1 5))) ∧ ((((st_I S (st_R S a1 5) a2.toNatClampNeg) = (-1 : Int32)) → (st_C S (st_R S o 13) = 4) ∧ wp_X4_isDue (st_R S o 13) a1 a2 S (fun z5 => (((z5 = 0) → wb_X1_pay_2_34 o a1 a2 a3 S Q) ∧ ((¬ (z5 = 0)) → wp_X4_isProved (st_R S o 13) a1 a2 S (fun z6 => (((z6 = 0) → wb_X1_pay_2_34 o a1 a2 a3 S Q) ∧ ((¬ (z6 = 0)) → (vp_in a2 (st_L S (st_R S a1 5))) ∧ (∀ S8, S8 = st_pI S (st_R S a1 5) a2.toNatClampNeg a3 → wl_X1_pay_2_54 o a1 a2 a3 (st_I S8 a1 2) (0 : Int32) (0 : Int32) S8 Q)))))))) ∧ ((¬ ((st_I S (st_R S a1 5) a2.toNatClampNeg) = (-1 : Int32))) → wb_X1_pay_2_34 o a1 a2 a3 S Q))
theorem nf_X1_pay_2 : hp_nf yX1_pay_2 3 = true := by decide +kernel
set_option maxHeartbeats 4000000 in
theorem m_X1_pay_2 {l : Launch} {B : Nat} {D : va_G} {s0 : State} {b0 : Nat} (G : hp_G l B D s0 b0) (o : Nat) (a1 : Nat) (a2 : Int32) (a3 : Int32) (Si : hp_St) (Q : hp_St → Prop) (hc0 : st_C Si o = 1) (h : wp_X1_pay_2 o a1 a2 a3 Si Q) : hp_M l B D s0 yX1_pay_2 cX1_pay_2 8 none 6 384 0 0 [hp_v B o, hp_v B a1, .int a2, .int a3] Si (hp_Qv B D s0 (fun S' => hp_mono Si S' ∧ Q S')) := by
  refine hp_start G (by decide +kernel) rfl rfl (lv := [(0, hp_v B o), (1, hp_v B a1), (2, .int a2), (3, .int a3)]) (by simp [lg_sl, hp_vc, hp_ci, hp_cj]) (by simp [lv_args, hp_vc, hp_ci, hp_cj]) ?_
  intro p e s m args below meth c E ls hl hR
  have hm : hp_mono Si Si := hp_mono.rf
  generalize hH : s.heap = H at hR ⊢
  generalize hLo : ([] : List Loc) = locs at hR ⊢
  have b34 : ∀ (S : hp_St) (H : Heap) (locs : List Loc) (ls : Array Slot), wb_X1_pay_2_34 o a1 a2 a3 S Q → lv_has ls 8 [] → hp_S B D s0 S H locs → hp_mono Si S → W p l e ({ frames := 6, cells := 0, slots := 0, locals := 384 } : Room) s m args below meth c H locs 0 0 (MQ below (hp_Qv B D s0 (fun S' => hp_mono Si S' ∧ Q S')) args s 0 0 (fun q => B < q)) (F0 m 34 ls []) := by
    intro S H locs ls h hl hR hm
    unfold wb_X1_pay_2_34 at h
    exact hp_vret E hR ⟨hm, h⟩ (Nat.le_of_ble_eq_true rfl) (Nat.le_of_ble_eq_true rfl) dX1_pay_2_34
  have b54 : ∀ (v4 : Int32) (v5 : Int32) (v6 : Int32) (S : hp_St) (H : Heap) (locs : List Loc) (ls : Array Slot), wl_X1_pay_2_54 o a1 a2 a3 v4 v5 v6 S Q → lv_has ls 8 [(0, hp_v B o), (1, hp_v B a1), (3, .int a3), (4, .int v4), (5, .int v5), (6, .int v6)] → hp_S B D s0 S H locs → hp_mono Si S → W p l e ({ frames := 6, cells := 0, slots := 0, locals := 384 } : Room) s m args below meth c H locs 0 0 (MQ below (hp_Qv B D s0 (fun S' => hp_mono Si S' ∧ Q S')) args s 0 0 (fun q => B < q)) (F0 m 54 ls []) := by
    intro v4 v5 v6 S H locs ls h hl hR hm
    obtain ⟨I54, μ54, hI, hst⟩ := h
    obtain ⟨Sa54, eSa54⟩ : ∃ x, x = S := ⟨_, rfl⟩
    subst eSa54
    have key54 : ∀ (N : Nat) (v4 : Int32) (v5 : Int32) (v6 : Int32) (Su54 : hp_St) (H : Heap) (locs : List Loc) (ls : Array Slot), μ54 v4 v5 v6 Su54 < N → I54 v4 v5 v6 Su54 → lv_has ls 8 [(0, hp_v B o), (1, hp_v B a1), (3, .int a3), (4, .int v4), (5, .int v5), (6, .int v6)] → hp_S B D s0 Su54 H locs → hp_mono Sa54 Su54 → W p l e ({ frames := 6, cells := 0, slots := 0, locals := 384 } : Room) s m args below meth c H locs 0 0 (MQ below (hp_Qv B D s0 (fun S' => hp_mono Si S' ∧ Q S')) args s 0 0 (fun q => B < q)) (F0 m 54 ls []) := by
      intro N
      induction N with
      | zero =>
        intro v4 v5 v6 Su54 H locs ls hN
        exact absurd hN (Nat.not_lt_zero _)
      | succ N ih54 =>
        intro v4 v5 v6 Su54 H locs ls hN hI hl hR ms54
        have h := hst v4 v5 v6 Su54 ms54 hI
        have hm := hp_mono.tr hm ms54
        obtain ⟨K54, hKe54⟩ : ∃ K : Int32 → Int32 → Int32 → hp_St → Prop, K = (fun v4' v5' v6' Sk => I54 v4' v5' v6' Sk ∧ μ54 v4' v5' v6' Sk < μ54 v4 v5 v6 Su54) := ⟨_, rfl⟩
        rw [← hKe54] at h
        have hK54 : ∀ (v4' : Int32) (v5' : Int32) (v6' : Int32) (Sk : hp_St) (H : Heap) (locs : List Loc) (ls : Array Slot), K54 v4' v5' v6' Sk → lv_has ls 8 [(0, hp_v B o), (1, hp_v B a1), (3, .int a3), (4, .int (v4')), (5, .int (v5')), (6, .int (v6'))] → hp_S B D s0 Sk H locs → hp_mono Sa54 Sk → W p l e ({ frames := 6, cells := 0, slots := 0, locals := 384 } : Room) s m args below meth c H locs 0 0 (MQ below (hp_Qv B D s0 (fun S' => hp_mono Si S' ∧ Q S')) args s 0 0 (fun q => B < q)) (F0 m 54 ls []) := by
          intro v4' v5' v6' Sk H locs ls hI hl hR ms
          rw [hKe54] at hI
          exact ih54 v4' v5' v6' Sk H locs ls (Nat.lt_of_lt_of_le hI.2 (Nat.le_of_lt_succ hN)) hI.1 hl hR ms
        have b120 : ∀ (v4 : Int32) (v5 : Int32) (v6 : Int32) (S : hp_St) (H : Heap) (locs : List Loc) (ls : Array Slot), wb_X1_pay_2_120 o a1 a2 a3 v4 v5 v6 S K54 Q → lv_has ls 8 [(0, hp_v B o), (1, hp_v B a1), (3, .int a3), (4, .int v4), (5, .int v5), (6, .int v6)] → hp_S B D s0 S H locs → hp_mono Si S → hp_mono Sa54 S → W p l e ({ frames := 6, cells := 0, slots := 0, locals := 384 } : Room) s m args below meth c H locs 0 0 (MQ below (hp_Qv B D s0 (fun S' => hp_mono Si S' ∧ Q S')) args s 0 0 (fun q => B < q)) (F0 m 120 ls []) := by
          intro v4 v5 v6 S H locs ls h hl hR hm ms54
          unfold wb_X1_pay_2_120 at h
          refine hp_iinc E hl (v6 + (1 : Int32)) 5 (lv' := [(0, hp_v B o), (1, hp_v B a1), (3, .int a3), (4, .int v4), (5, .int v5)]) dX1_pay_2_120 (rfl : 120 + 3 = 123) rfl (by first | rfl | (congr 1)) (by decide) rfl (fun ls hl => ?_)
          refine hp_goto E (tgt := 54) dX1_pay_2_123 (by decide) ?_
          exact hK54 _ _ _ _ _ _ _ h (lv_sub hl [1, 2, 3, 4, 5, 0] rfl) hR ms54
        unfold wb_X1_pay_2_54 at h
        refine hp_iload E hl 5 rfl dX1_pay_2_54 (rfl : 54 + 2 = 56) ?_
        refine hp_bipush E (8 : Int32) (by decide) dX1_pay_2_56 (rfl : 56 + 2 = 58) ?_
        refine hp_icmp_ge E dX1_pay_2_58 (rfl : 58 + 3 = 61) (tgt := 126) (by decide) (fun hb => ?_) (fun hb => ?_)
        · have h := h.1 hb
          refine hp_aload_n E hl 1 rfl 1 rfl dX1_pay_2_61 (rfl : 61 + 1 = 62) ?_
          obtain ⟨hc5401, h⟩ := h
          refine hp_or2 hc5401 (fun hc kk => hp_getI E hR in_X11 hc rfl 2 (Nat.le_of_ble_eq_true rfl) rfl q791 (fun _ h => h) dX1_pay_2_62 (rfl : 62 + 3 = 65) kk) (fun hc kk => hp_getI E hR in_X12 hc rfl 2 (Nat.le_of_ble_eq_true rfl) rfl q791 (fun _ h => h) dX1_pay_2_62 (rfl : 62 + 3 = 65) kk) ?_
          refine hp_aload_n E hl 1 rfl 1 rfl dX1_pay_2_65 (rfl : 65 + 1 = 66) ?_
          refine hp_iload E hl 5 rfl dX1_pay_2_66 (rfl : 66 + 2 = 68) ?_
          refine hp_iload_n E hl 3 rfl 2 rfl dX1_pay_2_68 (rfl : 68 + 1 = 69) ?_
          (try unfold hp_virt at h)
          refine hp_fi (hp_el2 hc5401 (fun hc => hp_rV E hR hl (m_X11_parts G _ _ _ _ _ (Or.inl hc) (h.1 hc)) hc (ci := 10) rfl rfl q843 q844 q845 q97 q848 nf_X11_parts ⟨Nat.le_of_ble_eq_true rfl, Nat.le_of_ble_eq_true rfl⟩ (rest := [.int (st_I Su54 a1 2)]) rfl (Nat.le_of_ble_eq_true rfl) dX1_pay_2_69 ⟨Nat.le_of_ble_eq_true rfl, Nat.le_of_ble_eq_true rfl⟩) (fun hc => hp_rU E hR hl (m_X11_parts G _ _ _ _ _ (Or.inr hc) (h.2 hc)) hc (ci := 11) rfl q843 q844 q847 q97 q848 q846 q844 q848 nf_X11_parts ⟨Nat.le_of_ble_eq_true rfl, Nat.le_of_ble_eq_true rfl⟩ (rest := [.int (st_I Su54 a1 2)]) rfl (Nat.le_of_ble_eq_true rfl) dX1_pay_2_69 ⟨Nat.le_of_ble_eq_true rfl, Nat.le_of_ble_eq_true rfl⟩)) hR (rfl : 69 + 3 = 72) (fun z5402 Sx H locs hq hR => ?_)
          obtain ⟨hSx, h⟩ := hq
          rw [hSx] at hR
          refine hp_imul E dX1_pay_2_72 (rfl : 72 + 1 = 73) ?_
          refine hp_bipush E (60 : Int32) (by decide) dX1_pay_2_73 (rfl : 73 + 2 = 75) ?_
          refine hp_idiv E (by decide) dX1_pay_2_75 (rfl : 75 + 1 = 76) ?_
          refine hp_istore E hl 7 (lv' := [(0, hp_v B o), (1, hp_v B a1), (3, .int a3), (4, .int v4), (5, .int v5), (6, .int v6)]) dX1_pay_2_76 (rfl : 76 + 2 = 78) (by decide) rfl (fun ls hl => ?_)
          refine hp_aload_n E hl 0 rfl 1 rfl dX1_pay_2_78 (rfl : 78 + 1 = 79) ?_
          refine hp_getR E hR in_X1 (hp_mono.c hm hc0) rfl 12 (Nat.le_of_ble_eq_true rfl) rfl q334 (fun _ h => h) dX1_pay_2_79 (rfl : 79 + 3 = 82) ?_
          refine hp_iload E hl 6 rfl dX1_pay_2_82 (rfl : 82 + 2 = 84) ?_
          obtain ⟨hc5404, h⟩ := h
          obtain ⟨hi5405, h⟩ := h
          refine hp_aald E hR (Or.inr (Or.inl hc5404)) hi5405 dX1_pay_2_84 (rfl : 84 + 1 = 85) ?_
          refine hp_iload_n E hl 3 rfl 3 rfl dX1_pay_2_85 (rfl : 85 + 1 = 86) ?_
          refine hp_dup2 E rfl hp_vc dX1_pay_2_86 (rfl : 86 + 1 = 87) ?_
          obtain ⟨hc5406, h⟩ := h
          obtain ⟨hi5407, h⟩ := h
          refine hp_iald E hR hc5406 hi5407 dX1_pay_2_87 (rfl : 87 + 1 = 88) ?_
          refine hp_iload E hl 0 rfl dX1_pay_2_88 (rfl : 88 + 2 = 90) ?_
          refine hp_iadd E dX1_pay_2_90 (rfl : 90 + 1 = 91) ?_
          obtain ⟨hi5408, h⟩ := h
          refine hx_iast E hR hc5406 hi5408 dX1_pay_2_91 (rfl : 91 + 1 = 92) (fun S5409 H locs e5411 hm5410 hR => ?_)
          have h := h S5409 e5411
          have hm := hp_mono.tr hm hm5410
          have ms54 := hp_mono.tr ms54 hm5410
          refine hp_iload E hl 4 rfl dX1_pay_2_92 (rfl : 92 + 2 = 94) ?_
          refine hp_iload E hl 0 rfl dX1_pay_2_94 (rfl : 94 + 2 = 96) ?_
          refine hp_isub E dX1_pay_2_96 (rfl : 96 + 1 = 97) ?_
          refine hp_istore E hl 4 (lv' := [(7, .int (((st_I Su54 a1 2) * z5402) / (60 : Int32))), (0, hp_v B o), (1, hp_v B a1), (3, .int a3), (5, .int v5), (6, .int v6)]) dX1_pay_2_97 (rfl : 97 + 2 = 99) (by decide) rfl (fun ls hl => ?_)
          refine hp_aload_n E hl 1 rfl 3 rfl dX1_pay_2_99 (rfl : 99 + 1 = 100) ?_
          refine hp_iload E hl 6 rfl dX1_pay_2_100 (rfl : 100 + 2 = 102) ?_
          refine hp_iload_n E hl 3 rfl 4 rfl dX1_pay_2_102 (rfl : 102 + 1 = 103) ?_
          (try unfold hp_virt at h)
          refine hp_fi (hp_el2 (hp_mono.c2 hm5410 hc5401) (fun hc => hp_rV E hR hl (m_X11_parts G _ _ _ _ _ (Or.inl hc) (h.1 hc)) hc (ci := 10) rfl rfl q843 q844 q845 q97 q848 nf_X11_parts ⟨Nat.le_of_ble_eq_true rfl, Nat.le_of_ble_eq_true rfl⟩ (rest := []) rfl (Nat.le_of_ble_eq_true rfl) dX1_pay_2_103 ⟨Nat.le_of_ble_eq_true rfl, Nat.le_of_ble_eq_true rfl⟩) (fun hc => hp_rU E hR hl (m_X11_parts G _ _ _ _ _ (Or.inr hc) (h.2 hc)) hc (ci := 11) rfl q843 q844 q847 q97 q848 q846 q844 q848 nf_X11_parts ⟨Nat.le_of_ble_eq_true rfl, Nat.le_of_ble_eq_true rfl⟩ (rest := []) rfl (Nat.le_of_ble_eq_true rfl) dX1_pay_2_103 ⟨Nat.le_of_ble_eq_true rfl, Nat.le_of_ble_eq_true rfl⟩)) hR (rfl : 103 + 3 = 106) (fun z5412 Sx H locs hq hR => ?_)
          obtain ⟨hSx, h⟩ := hq
          rw [hSx] at hR
          refine hp_aload_n E hl 1 rfl 3 rfl dX1_pay_2_106 (rfl : 106 + 1 = 107) ?_
          refine hp_iload E hl 5 rfl dX1_pay_2_107 (rfl : 107 + 2 = 109) ?_
          refine hp_iload_n E hl 3 rfl 4 rfl dX1_pay_2_109 (rfl : 109 + 1 = 110) ?_
          (try unfold hp_virt at h)
          refine hp_fi (hp_el2 (hp_mono.c2 hm5410 hc5401) (fun hc => hp_rV E hR hl (m_X11_parts G _ _ _ _ _ (Or.inl hc) (h.1 hc)) hc (ci := 10) rfl rfl q843 q844 q845 q97 q848 nf_X11_parts ⟨Nat.le_of_ble_eq_true rfl, Nat.le_of_ble_eq_true rfl⟩ (rest := [.int z5412]) rfl (Nat.le_of_ble_eq_true rfl) dX1_pay_2_110 ⟨Nat.le_of_ble_eq_true rfl, Nat.le_of_ble_eq_true rfl⟩) (fun hc => hp_rU E hR hl (m_X11_parts G _ _ _ _ _ (Or.inr hc) (h.2 hc)) hc (ci := 11) rfl q843 q844 q847 q97 q848 q846 q844 q848 nf_X11_parts ⟨Nat.le_of_ble_eq_true rfl, Nat.le_of_ble_eq_true rfl⟩ (rest := [.int z5412]) rfl (Nat.le_of_ble_eq_true rfl) dX1_pay_2_110 ⟨Nat.le_of_ble_eq_true rfl, Nat.le_of_ble_eq_true rfl⟩)) hR (rfl : 110 + 3 = 113) (fun z5414 Sx H locs hq hR => ?_)
          obtain ⟨hSx, h⟩ := hq
          rw [hSx] at hR
          refine hp_icmp_le E dX1_pay_2_113 (rfl : 113 + 3 = 116) (tgt := 120) (by decide) (fun hb => ?_) (fun hb => ?_)
          · have h := h.1 hb
            exact b120 _ _ _ _ _ _ _ h (lv_sub hl [2, 3, 4, 0, 5, 6] rfl) hR hm ms54
          · have h := h.2 hb
            refine hp_iload E hl 6 rfl dX1_pay_2_116 (rfl : 116 + 2 = 118) ?_
            refine hp_istore E hl 5 (lv' := [(4, .int (v4 - (((st_I Su54 a1 2) * z5402) / (60 : Int32)))), (7, .int (((st_I Su54 a1 2) * z5402) / (60 : Int32))), (0, hp_v B o), (1, hp_v B a1), (3, .int a3), (6, .int v6)]) dX1_pay_2_118 (rfl : 118 + 2 = 120) (by decide) rfl (fun ls hl => ?_)
            exact b120 _ _ _ _ _ _ _ h (lv_sub hl [3, 4, 5, 1, 0, 6] rfl) hR hm ms54
        · have h := h.2 hb
          refine hp_aload_n E hl 0 rfl 0 rfl dX1_pay_2_126 (rfl : 126 + 1 = 127) ?_
          refine hp_getR E hR in_X1 (hp_mono.c hm hc0) rfl 12 (Nat.le_of_ble_eq_true rfl) rfl q334 (fun _ h => h) dX1_pay_2_127 (rfl : 127 + 3 = 130) ?_
          refine hp_iload E hl 4 rfl dX1_pay_2_130 (rfl : 130 + 2 = 132) ?_
          obtain ⟨hc5416, h⟩ := h
          obtain ⟨hi5417, h⟩ := h
          refine hp_aald E hR (Or.inr (Or.inl hc5416)) hi5417 dX1_pay_2_132 (rfl : 132 + 1 = 133) ?_
          refine hp_iload_n E hl 3 rfl 2 rfl dX1_pay_2_133 (rfl : 133 + 1 = 134) ?_
          refine hp_dup2 E rfl hp_vc dX1_pay_2_134 (rfl : 134 + 1 = 135) ?_
          obtain ⟨hc5418, h⟩ := h
          obtain ⟨hi5419, h⟩ := h
          refine hp_iald E hR hc5418 hi5419 dX1_pay_2_135 (rfl : 135 + 1 = 136) ?_
          refine hp_iload E hl 3 rfl dX1_pay_2_136 (rfl : 136 + 2 = 138) ?_
          refine hp_iadd E dX1_pay_2_138 (rfl : 138 + 1 = 139) ?_
          obtain ⟨hi5420, h⟩ := h
          refine hx_iast E hR hc5418 hi5420 dX1_pay_2_139 (rfl : 139 + 1 = 140) (fun S5421 H locs e5423 hm5422 hR => ?_)
          have h := h S5421 e5423
          have hm := hp_mono.tr hm hm5422
          have ms54 := hp_mono.tr ms54 hm5422
          exact hp_vret E hR ⟨hm, h⟩ (Nat.le_of_ble_eq_true rfl) (Nat.le_of_ble_eq_true rfl) dX1_pay_2_140
    exact key54 (μ54 v4 v5 v6 Sa54 + 1) v4 v5 v6 _ H locs ls (Nat.lt_succ_self _) hI hl hR hp_mono.rf
  unfold wp_X1_pay_2 at h
  refine hp_aload_n E hl 1 rfl 1 rfl dX1_pay_2_0 (rfl : 0 + 1 = 1) ?_
  obtain ⟨hc1, h⟩ := h
  refine hp_or2 hc1 (fun hc kk => hp_getRN E hR in_X11 hc rfl 5 (Nat.le_of_ble_eq_true rfl) rfl q800 (fun _ h => h) dX1_pay_2_1 (rfl : 1 + 3 = 4) kk) (fun hc kk => hp_getRN E hR in_X12 hc rfl 5 (Nat.le_of_ble_eq_true rfl) rfl q800 (fun _ h => h) dX1_pay_2_1 (rfl : 1 + 3 = 4) kk) ?_
  refine hp_iload_n E hl 2 rfl 2 rfl dX1_pay_2_4 (rfl : 4 + 1 = 5) ?_
  obtain ⟨hc2, h⟩ := h
  obtain ⟨hi3, h⟩ := h
  refine hp_iald E hR hc2 hi3 dX1_pay_2_5 (rfl : 5 + 1 = 6) ?_
  refine hp_iconst E (-1 : Int32) (by decide) dX1_pay_2_6 (rfl : 6 + 1 = 7) ?_
  refine hp_icmp_ne E dX1_pay_2_7 (rfl : 7 + 3 = 10) (tgt := 34) (by decide) (fun hb => ?_) (fun hb => ?_)
  · have h := h.1 hb
    refine hp_aload_n E hl 0 rfl 0 rfl dX1_pay_2_10 (rfl : 10 + 1 = 11) ?_
    refine hp_getR E hR in_X1 hc0 rfl 13 (Nat.le_of_ble_eq_true rfl) rfl q336 (fun _ h => h) dX1_pay_2_11 (rfl : 11 + 3 = 14) ?_
    refine hp_aload_n E hl 1 rfl 1 rfl dX1_pay_2_14 (rfl : 14 + 1 = 15) ?_
    refine hp_iload_n E hl 2 rfl 2 rfl dX1_pay_2_15 (rfl : 15 + 1 = 16) ?_
    obtain ⟨hc4, h⟩ := h
    refine hp_fi (hp_rV E hR hl (m_X4_isDue G _ _ _ _ _ hc4 h) hc4 (ci := 3) rfl rfl q1005 q1006 q1007 q79 q1008 nf_X4_isDue ⟨Nat.le_of_ble_eq_true rfl, Nat.le_of_ble_eq_true rfl⟩ (rest := []) rfl (Nat.le_of_ble_eq_true rfl) dX1_pay_2_16 ⟨Nat.le_of_ble_eq_true rfl, Nat.le_of_ble_eq_true rfl⟩) hR (rfl : 16 + 3 = 19) (fun z5 Sx H locs hq hR => ?_)
    obtain ⟨hSx, h⟩ := hq
    rw [hSx] at hR
    refine hp_if_eq E dX1_pay_2_19 (rfl : 19 + 3 = 22) (tgt := 34) (by decide) (fun hb => ?_) (fun hb => ?_)
    · have h := h.1 hb
      exact b34 _ _ _ _ h (lv_sub hl [] rfl) hR hm
    · have h := h.2 hb
      refine hp_aload_n E hl 0 rfl 0 rfl dX1_pay_2_22 (rfl : 22 + 1 = 23) ?_
      refine hp_getR E hR in_X1 hc0 rfl 13 (Nat.le_of_ble_eq_true rfl) rfl q336 (fun _ h => h) dX1_pay_2_23 (rfl : 23 + 3 = 26) ?_
      refine hp_aload_n E hl 1 rfl 1 rfl dX1_pay_2_26 (rfl : 26 + 1 = 27) ?_
      refine hp_iload_n E hl 2 rfl 2 rfl dX1_pay_2_27 (rfl : 27 + 1 = 28) ?_
      refine hp_fi (hp_rV E hR hl (m_X4_isProved G _ _ _ _ _ hc4 h) hc4 (ci := 3) rfl rfl q1021 q1022 q1023 q79 q1024 nf_X4_isProved ⟨Nat.le_of_ble_eq_true rfl, Nat.le_of_ble_eq_true rfl⟩ (rest := []) rfl (Nat.le_of_ble_eq_true rfl) dX1_pay_2_28 ⟨Nat.le_of_ble_eq_true rfl, Nat.le_of_ble_eq_true rfl⟩) hR (rfl : 28 + 3 = 31) (fun z6 Sx H locs hq hR => ?_)
      obtain ⟨hSx, h⟩ := hq
      rw [hSx] at hR
      refine hp_if_ne E dX1_pay_2_31 (rfl : 31 + 3 = 34) (tgt := 35) (by decide) (fun hb => ?_) (fun hb => ?_)
      · have h := h.1 hb
        exact b34 _ _ _ _ h (lv_sub hl [] rfl) hR hm
      · have h := h.2 hb
        refine hp_aload_n E hl 1 rfl 1 rfl dX1_pay_2_35 (rfl : 35 + 1 = 36) ?_
        refine hp_or2 hc1 (fun hc kk => hp_getRN E hR in_X11 hc rfl 5 (Nat.le_of_ble_eq_true rfl) rfl q800 (fun _ h => h) dX1_pay_2_36 (rfl : 36 + 3 = 39) kk) (fun hc kk => hp_getRN E hR in_X12 hc rfl 5 (Nat.le_of_ble_eq_true rfl) rfl q800 (fun _ h => h) dX1_pay_2_36 (rfl : 36 + 3 = 39) kk) ?_
        refine hp_iload_n E hl 2 rfl 2 rfl dX1_pay_2_39 (rfl : 39 + 1 = 40) ?_
        refine hp_iload_n E hl 3 rfl 3 rfl dX1_pay_2_40 (rfl : 40 + 1 = 41) ?_
        obtain ⟨hi7, h⟩ := h
        refine hx_iast E hR hc2 hi7 dX1_pay_2_41 (rfl : 41 + 1 = 42) (fun S8 H locs e10 hm9 hR => ?_)
        have h := h S8 e10
        have hm := hp_mono.tr hm hm9
        refine hp_aload_n E hl 1 rfl 1 rfl dX1_pay_2_42 (rfl : 42 + 1 = 43) ?_
        refine hp_or2 (hp_mono.c2 hm hc1) (fun hc kk => hp_getI E hR in_X11 hc rfl 2 (Nat.le_of_ble_eq_true rfl) rfl q791 (fun _ h => h) dX1_pay_2_43 (rfl : 43 + 3 = 46) kk) (fun hc kk => hp_getI E hR in_X12 hc rfl 2 (Nat.le_of_ble_eq_true rfl) rfl q791 (fun _ h => h) dX1_pay_2_43 (rfl : 43 + 3 = 46) kk) ?_
        refine hp_istore E hl 4 (lv' := [(0, hp_v B o), (1, hp_v B a1), (2, .int a2), (3, .int a3)]) dX1_pay_2_46 (rfl : 46 + 2 = 48) (by decide) rfl (fun ls hl => ?_)
        refine hp_iconst E (0 : Int32) (by decide) dX1_pay_2_48 (rfl : 48 + 1 = 49) ?_
        refine hp_istore E hl 5 (lv' := [(4, .int (st_I S8 a1 2)), (0, hp_v B o), (1, hp_v B a1), (2, .int a2), (3, .int a3)]) dX1_pay_2_49 (rfl : 49 + 2 = 51) (by decide) rfl (fun ls hl => ?_)
        refine hp_iconst E (0 : Int32) (by decide) dX1_pay_2_51 (rfl : 51 + 1 = 52) ?_
        refine hp_istore E hl 6 (lv' := [(5, .int (0 : Int32)), (4, .int (st_I S8 a1 2)), (0, hp_v B o), (1, hp_v B a1), (2, .int a2), (3, .int a3)]) dX1_pay_2_52 (rfl : 52 + 2 = 54) (by decide) rfl (fun ls hl => ?_)
        exact b54 _ _ _ _ _ _ _ h (lv_sub hl [3, 4, 6, 2, 1, 0] rfl) hR hm
  · have h := h.2 hb
    exact b34 _ _ _ _ h (lv_sub hl [] rfl) hR hm
def wb_X1_pay_182 (o : Nat) (v1 : Int32) (v2 : Int32) (v3 : Int32) (S : hp_St) (K102 : Int32 → hp_St → Prop) (K157 : Int32 → hp_St → Prop) (K182 : Int32 → hp_St → Prop) (Q : hp_St → Prop) : Prop := (((v3 ≤ v1) → (st_C S (st_R S o 9) = 17) ∧ wp_J2_get (st_R S o 9) v2 S (fun z18202 => (st_C S z18202 = 11 ∨ st_C S z18202 = 12) ∧ wp_X1_pay_2 o z18202 v3 v1 S (fun S18204 => hp_mono S S18204 → K182 (v3 + (1 : Int32)) S18204))) ∧ ((¬ (v3 ≤ v1)) → K157 (v2 + (1 : Int32)) S))
def wl_X1_pay_182 (o : Nat) (v1 : Int32) (v2 : Int32) (v3 : Int32) (S : hp_St) (K102 : Int32 → hp_St → Prop) (K157 : Int32 → hp_St → Prop) (Q : hp_St → Prop) : Prop := ∃ (I : Int32 → hp_St → Prop) (μ : Int32 → hp_St → Nat), I v3 S ∧ ∀ (v3 : Int32) (S1 : hp_St), hp_mono S S1 → I v3 S1 → wb_X1_pay_182 o v1 v2 v3 S1 K102 K157 (fun v3' S2 => I v3' S2 ∧ μ v3' S2 < μ v3 S1) Q
def wb_X1_pay_157 (o : Nat) (v1 : Int32) (v2 : Int32) (S : hp_St) (K102 : Int32 → hp_St → Prop) (K157 : Int32 → hp_St → Prop) (Q : hp_St → Prop) : Prop := (st_C S (st_R S o 9) = 17) ∧ wp_J2_size (st_R S o 9) S (fun z15702 => (((v2 < z15702) → (st_C S (st_R S o 7) = 3) ∧ wl_X1_pay_182 o v1 v2 (if (0 : Int32) < (v1 - (st_I S (st_R S o 7) 1)) then (v1 - (st_I S (st_R S o 7) 1)) else (0 : Int32)) S K102 K157 Q) ∧ ((¬ (v2 < z15702)) → K102 (v1 + (1 : Int32)) S)))
def wl_X1_pay_157 (o : Nat) (v1 : Int32) (v2 : Int32) (S : hp_St) (K102 : Int32 → hp_St → Prop) (Q : hp_St → Prop) : Prop := ∃ (I : Int32 → hp_St → Prop) (μ : Int32 → hp_St → Nat), I v2 S ∧ ∀ (v2 : Int32) (S1 : hp_St), hp_mono S S1 → I v2 S1 → wb_X1_pay_157 o v1 v2 S1 K102 (fun v2' S2 => I v2' S2 ∧ μ v2' S2 < μ v2 S1) Q
def wb_X1_pay_155 (o : Nat) (v1 : Int32) (S : hp_St) (K102 : Int32 → hp_St → Prop) (Q : hp_St → Prop) : Prop := wl_X1_pay_157 o v1 (0 : Int32) S K102 Q
def wb_X1_pay_121 (o : Nat) (v1 : Int32) (v2 : Int32) (S : hp_St) (K102 : Int32 → hp_St → Prop) (K121 : Int32 → hp_St → Prop) (Q : hp_St → Prop) : Prop := (((v2 < (8 : Int32)) → (((v1 ≤ 0) → wb_X1_pay_155 o v1 S K102 Q) ∧ ((¬ (v1 ≤ 0)) → (st_C S (st_R S o 12) = 55) ∧ (vp_in v2 (st_L S (st_R S o 12))) ∧ (vp_in v2 (st_L S (st_R S o 12))) ∧ (st_C S (st_R S (st_R S o 12) v2.toNatClampNeg) = 50) ∧ (vp_in (v1 - (1 : Int32)) (st_L S (st_R S (st_R S o 12) v2.toNatClampNeg))) ∧ (vp_in v1 (st_L S (st_R S (st_R S o 12) v2.toNatClampNeg))) ∧ (∀ S12107, S12107 = st_pI S (st_R S (st_R S o 12) v2.toNatClampNeg) v1.toNatClampNeg (st_I S (st_R S (st_R S o 12) v2.toNatClampNeg) (v1 - (1 : Int32)).toNatClampNeg) → K121 (v2 + (1 : Int32)) S12107)))) ∧ ((¬ (v2 < (8 : Int32))) → wb_X1_pay_155 o v1 S K102 Q))
def wl_X1_pay_121 (o : Nat) (v1 : Int32) (v2 : Int32) (S : hp_St) (K102 : Int32 → hp_St → Prop) (Q : hp_St → Prop) : Prop := ∃ (I : Int32 → hp_St → Prop) (μ : Int32 → hp_St → Nat), I v2 S ∧ ∀ (v2 : Int32) (S1 : hp_St), hp_mono S S1 → I v2 S1 → wb_X1_pay_121 o v1 v2 S1 K102 (fun v2' S2 => I v2' S2 ∧ μ v2' S2 < μ v2 S1) Q
def wb_X1_pay_102 (o : Nat) (v1 : Int32) (S : hp_St) (K102 : Int32 → hp_St → Prop) (Q : hp_St → Prop) : Prop := (((v1 ≤ (st_I S o 4)) → (st_C S (st_R S o 13) = 4) ∧ wp_X4_know (st_R S o 13) v1 S (fun z10202 S10203 => hp_mono S S10203 → wl_X1_pay_121 o v1 (0 : Int32) S10203 K102 Q)) ∧ ((¬ (v1 ≤ (st_I S o 4))) → Q S))
def wl_X1_pay_102 (o : Nat) (v1 : Int32) (S : hp_St) (Q : hp_St → Prop) : Prop := ∃ (I : Int32 → hp_St → Prop) (μ : Int32 → hp_St → Nat), I v1 S ∧ ∀ (v1 : Int32) (S1 : hp_St), hp_mono S S1 → I v1 S1 → wb_X1_pay_102 o v1 S1 (fun v1' S2 => I v1' S2 ∧ μ v1' S2 < μ v1 S1) Q
def wb_X1_pay_73 (o : Nat) (v1 : Int32) (v2 : Int32) (S : hp_St) (K65 : Int32 → hp_St → Prop) (K73 : Int32 → hp_St → Prop) (Q : hp_St → Prop) : Prop := (((v2 < (80 : Int32)) → (st_C S (st_R S o 12) = 55) ∧ (vp_in v1 (st_L S (st_R S o 12))) ∧ (st_C S (st_R S (st_R S o 12) v1.toNatClampNeg) = 50) ∧ (vp_in v2 (st_L S (st_R S (st_R S o 12) v1.toNatClampNeg))) ∧ (∀ S7305, S7305 = st_pI S (st_R S (st_R S o 12) v1.toNatClampNeg) v2.toNatClampNeg (0 : Int32) → K73 (v2 + (1 : Int32)) S7305)) ∧ ((¬ (v2 < (80 : Int32))) → K65 (v1 + (1 : Int32)) S))
def wl_X1_pay_73 (o : Nat) (v1 : Int32) (v2 : Int32) (S : hp_St) (K65 : Int32 → hp_St → Prop) (Q : hp_St → Prop) : Prop := ∃ (I : Int32 → hp_St → Prop) (μ : Int32 → hp_St → Nat), I v2 S ∧ ∀ (v2 : Int32) (S1 : hp_St), hp_mono S S1 → I v2 S1 → wb_X1_pay_73 o v1 v2 S1 K65 (fun v2' S2 => I v2' S2 ∧ μ v2' S2 < μ v2 S1) Q
def wb_X1_pay_65 (o : Nat) (v1 : Int32) (S : hp_St) (K65 : Int32 → hp_St → Prop) (Q : hp_St → Prop) : Prop := (((v1 < (8 : Int32)) → wl_X1_pay_73 o v1 (0 : Int32) S K65 Q) ∧ ((¬ (v1 < (8 : Int32))) → wl_X1_pay_102 o (0 : Int32) S Q))
def wl_X1_pay_65 (o : Nat) (v1 : Int32) (S : hp_St) (Q : hp_St → Prop) : Prop := ∃ (I : Int32 → hp_St → Prop) (μ : Int32 → hp_St → Nat), I v1 S ∧ ∀ (v1 : Int32) (S1 : hp_St), hp_mono S S1 → I v1 S1 → wb_X1_pay_65 o v1 S1 (fun v1' S2 => I v1' S2 ∧ μ v1' S2 < μ v1 S1) Q
def wb_X1_pay_28 (o : Nat) (v1 : Int32) (v2 : Int32) (S : hp_St) (K15 : Int32 → hp_St → Prop) (K28 : Int32 → hp_St → Prop) (Q : hp_St → Prop) : Prop := (((v2 < (80 : Int32)) → (st_C S (st_R S o 9) = 17) ∧ wp_J2_get (st_R S o 9) v1 S (fun z2802 => (st_C S z2802 = 11 ∨ st_C S z2802 = 12) ∧ (st_C S (st_R S z2802 5) = 50) ∧ (vp_in v2 (st_L S (st_R S z2802 5))) ∧ (∀ S2806, S2806 = st_pI S (st_R S z2802 5) v2.toNatClampNeg (-1 : Int32) → K28 (v2 + (1 : Int32)) S2806))) ∧ ((¬ (v2 < (80 : Int32))) → K15 (v1 + (1 : Int32)) S))
def wl_X1_pay_28 (o : Nat) (v1 : Int32) (v2 : Int32) (S : hp_St) (K15 : Int32 → hp_St → Prop) (Q : hp_St → Prop) : Prop := ∃ (I : Int32 → hp_St → Prop) (μ : Int32 → hp_St → Nat), I v2 S ∧ ∀ (v2 : Int32) (S1 : hp_St), hp_mono S S1 → I v2 S1 → wb_X1_pay_28 o v1 v2 S1 K15 (fun v2' S2 => I v2' S2 ∧ μ v2' S2 < μ v2 S1) Q
def wb_X1_pay_15 (o : Nat) (v1 : Int32) (S : hp_St) (K15 : Int32 → hp_St → Prop) (Q : hp_St → Prop) : Prop := (st_C S (st_R S o 9) = 17) ∧ wp_J2_size (st_R S o 9) S (fun z1502 => (((v1 < z1502) → wl_X1_pay_28 o v1 (0 : Int32) S K15 Q) ∧ ((¬ (v1 < z1502)) → wl_X1_pay_65 o (0 : Int32) S Q)))
def wl_X1_pay_15 (o : Nat) (v1 : Int32) (S : hp_St) (Q : hp_St → Prop) : Prop := ∃ (I : Int32 → hp_St → Prop) (μ : Int32 → hp_St → Nat), I v1 S ∧ ∀ (v1 : Int32) (S1 : hp_St), hp_mono S S1 → I v1 S1 → wb_X1_pay_15 o v1 S1 (fun v1' S2 => I v1' S2 ∧ μ v1' S2 < μ v1 S1) Q
def wp_X1_pay (o : Nat) (S : hp_St) (Q : hp_St → Prop) : Prop := ((((st_I S o 17) = 0) → (∀ S1, S1 = st_pI S o 17 (1 : Int32) → wl_X1_pay_15 o (0 : Int32) S1 Q)) ∧ ((¬ ((st_I S o 17) = 0)) → Q S))
theorem nf_X1_pay : hp_nf yX1_pay 0 = true := by decide +kernel
set_option maxHeartbeats 4000000 in
theorem m_X1_pay {l : Launch} {B : Nat} {D : va_G} {s0 : State} {b0 : Nat} (G : hp_G l B D s0 b0) (o : Nat) (Si : hp_St) (Q : hp_St → Prop) (hc0 : st_C Si o = 1) (h : wp_X1_pay o Si Q) : hp_M l B D s0 yX1_pay cX1_pay 4 none 7 448 0 0 [hp_v B o] Si (hp_Qv B D s0 (fun S' => hp_mono Si S' ∧ Q S')) := by
  refine hp_start G (by decide +kernel) rfl rfl (lv := [(0, hp_v B o)]) (by simp [lg_sl, hp_vc, hp_ci, hp_cj]) (by simp [lv_args, hp_vc, hp_ci, hp_cj]) ?_
  intro p e s m args below meth c E ls hl hR
  have hm : hp_mono Si Si := hp_mono.rf
  generalize hH : s.heap = H at hR ⊢
  generalize hLo : ([] : List Loc) = locs at hR ⊢
  have b102 : ∀ (v1 : Int32) (S : hp_St) (H : Heap) (locs : List Loc) (ls : Array Slot), wl_X1_pay_102 o v1 S Q → lv_has ls 4 [(0, hp_v B o), (1, .int v1)] → hp_S B D s0 S H locs → hp_mono Si S → W p l e ({ frames := 7, cells := 0, slots := 0, locals := 448 } : Room) s m args below meth c H locs 0 0 (MQ below (hp_Qv B D s0 (fun S' => hp_mono Si S' ∧ Q S')) args s 0 0 (fun q => B < q)) (F0 m 102 ls []) := by
    intro v1 S H locs ls h hl hR hm
    obtain ⟨I102, μ102, hI, hst⟩ := h
    obtain ⟨Sa102, eSa102⟩ : ∃ x, x = S := ⟨_, rfl⟩
    subst eSa102
    have key102 : ∀ (N : Nat) (v1 : Int32) (Su102 : hp_St) (H : Heap) (locs : List Loc) (ls : Array Slot), μ102 v1 Su102 < N → I102 v1 Su102 → lv_has ls 4 [(0, hp_v B o), (1, .int v1)] → hp_S B D s0 Su102 H locs → hp_mono Sa102 Su102 → W p l e ({ frames := 7, cells := 0, slots := 0, locals := 448 } : Room) s m args below meth c H locs 0 0 (MQ below (hp_Qv B D s0 (fun S' => hp_mono Si S' ∧ Q S')) args s 0 0 (fun q => B < q)) (F0 m 102 ls []) := by
      intro N
      induction N with
      | zero =>
        intro v1 Su102 H locs ls hN
        exact absurd hN (Nat.not_lt_zero _)
      | succ N ih102 =>
        intro v1 Su102 H locs ls hN hI hl hR ms102
        have h := hst v1 Su102 ms102 hI
        have hm := hp_mono.tr hm ms102
        obtain ⟨K102, hKe102⟩ : ∃ K : Int32 → hp_St → Prop, K = (fun v1' Sk => I102 v1' Sk ∧ μ102 v1' Sk < μ102 v1 Su102) := ⟨_, rfl⟩
        rw [← hKe102] at h
        have hK102 : ∀ (v1' : Int32) (Sk : hp_St) (H : Heap) (locs : List Loc) (ls : Array Slot), K102 v1' Sk → lv_has ls 4 [(0, hp_v B o), (1, .int (v1'))] → hp_S B D s0 Sk H locs → hp_mono Sa102 Sk → W p l e ({ frames := 7, cells := 0, slots := 0, locals := 448 } : Room) s m args below meth c H locs 0 0 (MQ below (hp_Qv B D s0 (fun S' => hp_mono Si S' ∧ Q S')) args s 0 0 (fun q => B < q)) (F0 m 102 ls []) := by
          intro v1' Sk H locs ls hI hl hR ms
          rw [hKe102] at hI
          exact ih102 v1' Sk H locs ls (Nat.lt_of_lt_of_le hI.2 (Nat.le_of_lt_succ hN)) hI.1 hl hR ms
        have b157 : ∀ (v1 : Int32) (v2 : Int32) (S : hp_St) (H : Heap) (locs : List Loc) (ls : Array Slot), wl_X1_pay_157 o v1 v2 S K102 Q → lv_has ls 4 [(0, hp_v B o), (1, .int v1), (2, .int v2)] → hp_S B D s0 S H locs → hp_mono Si S → hp_mono Sa102 S → W p l e ({ frames := 7, cells := 0, slots := 0, locals := 448 } : Room) s m args below meth c H locs 0 0 (MQ below (hp_Qv B D s0 (fun S' => hp_mono Si S' ∧ Q S')) args s 0 0 (fun q => B < q)) (F0 m 157 ls []) := by
          intro v1 v2 S H locs ls h hl hR hm ms102
          obtain ⟨I157, μ157, hI, hst⟩ := h
          obtain ⟨Sa157, eSa157⟩ : ∃ x, x = S := ⟨_, rfl⟩
          subst eSa157
          have key157 : ∀ (N : Nat) (v2 : Int32) (Su157 : hp_St) (H : Heap) (locs : List Loc) (ls : Array Slot), μ157 v2 Su157 < N → I157 v2 Su157 → lv_has ls 4 [(0, hp_v B o), (1, .int v1), (2, .int v2)] → hp_S B D s0 Su157 H locs → hp_mono Sa157 Su157 → W p l e ({ frames := 7, cells := 0, slots := 0, locals := 448 } : Room) s m args below meth c H locs 0 0 (MQ below (hp_Qv B D s0 (fun S' => hp_mono Si S' ∧ Q S')) args s 0 0 (fun q => B < q)) (F0 m 157 ls []) := by
            intro N
            induction N with
            | zero =>
              intro v2 Su157 H locs ls hN
              exact absurd hN (Nat.not_lt_zero _)
            | succ N ih157 =>
              intro v2 Su157 H locs ls hN hI hl hR ms157
              have h := hst v2 Su157 ms157 hI
              have hm := hp_mono.tr hm ms157
              have ms102 := hp_mono.tr ms102 ms157
              obtain ⟨K157, hKe157⟩ : ∃ K : Int32 → hp_St → Prop, K = (fun v2' Sk => I157 v2' Sk ∧ μ157 v2' Sk < μ157 v2 Su157) := ⟨_, rfl⟩
              rw [← hKe157] at h
              have hK157 : ∀ (v2' : Int32) (Sk : hp_St) (H : Heap) (locs : List Loc) (ls : Array Slot), K157 v2' Sk → lv_has ls 4 [(0, hp_v B o), (1, .int v1), (2, .int (v2'))] → hp_S B D s0 Sk H locs → hp_mono Sa157 Sk → W p l e ({ frames := 7, cells := 0, slots := 0, locals := 448 } : Room) s m args below meth c H locs 0 0 (MQ below (hp_Qv B D s0 (fun S' => hp_mono Si S' ∧ Q S')) args s 0 0 (fun q => B < q)) (F0 m 157 ls []) := by
                intro v2' Sk H locs ls hI hl hR ms
                rw [hKe157] at hI
                exact ih157 v2' Sk H locs ls (Nat.lt_of_lt_of_le hI.2 (Nat.le_of_lt_succ hN)) hI.1 hl hR ms
              have b182 : ∀ (v2 : Int32) (v3 : Int32) (S : hp_St) (H : Heap) (locs : List Loc) (ls : Array Slot), wl_X1_pay_182 o v1 v2 v3 S K102 K157 Q → lv_has ls 4 [(0, hp_v B o), (1, .int v1), (2, .int v2), (3, .int v3)] → hp_S B D s0 S H locs → hp_mono Si S → hp_mono Sa102 S → hp_mono Sa157 S → W p l e ({ frames := 7, cells := 0, slots := 0, locals := 448 } : Room) s m args below meth c H locs 0 0 (MQ below (hp_Qv B D s0 (fun S' => hp_mono Si S' ∧ Q S')) args s 0 0 (fun q => B < q)) (F0 m 182 ls []) := by
                intro v2 v3 S H locs ls h hl hR hm ms102 ms157
                obtain ⟨I182, μ182, hI, hst⟩ := h
                obtain ⟨Sa182, eSa182⟩ : ∃ x, x = S := ⟨_, rfl⟩
                subst eSa182
                have key182 : ∀ (N : Nat) (v3 : Int32) (Su182 : hp_St) (H : Heap) (locs : List Loc) (ls : Array Slot), μ182 v3 Su182 < N → I182 v3 Su182 → lv_has ls 4 [(0, hp_v B o), (1, .int v1), (2, .int v2), (3, .int v3)] → hp_S B D s0 Su182 H locs → hp_mono Sa182 Su182 → W p l e ({ frames := 7, cells := 0, slots := 0, locals := 448 } : Room) s m args below meth c H locs 0 0 (MQ below (hp_Qv B D s0 (fun S' => hp_mono Si S' ∧ Q S')) args s 0 0 (fun q => B < q)) (F0 m 182 ls []) := by
                  intro N
                  induction N with
                  | zero =>
                    intro v3 Su182 H locs ls hN
                    exact absurd hN (Nat.not_lt_zero _)
                  | succ N ih182 =>
                    intro v3 Su182 H locs ls hN hI hl hR ms182
                    have h := hst v3 Su182 ms182 hI
                    have hm := hp_mono.tr hm ms182
                    have ms102 := hp_mono.tr ms102 ms182
                    have ms157 := hp_mono.tr ms157 ms182
                    obtain ⟨K182, hKe182⟩ : ∃ K : Int32 → hp_St → Prop, K = (fun v3' Sk => I182 v3' Sk ∧ μ182 v3' Sk < μ182 v3 Su182) := ⟨_, rfl⟩
                    rw [← hKe182] at h
                    have hK182 : ∀ (v3' : Int32) (Sk : hp_St) (H : Heap) (locs : List Loc) (ls : Array Slot), K182 v3' Sk → lv_has ls 4 [(0, hp_v B o), (1, .int v1), (2, .int v2), (3, .int (v3'))] → hp_S B D s0 Sk H locs → hp_mono Sa182 Sk → W p l e ({ frames := 7, cells := 0, slots := 0, locals := 448 } : Room) s m args below meth c H locs 0 0 (MQ below (hp_Qv B D s0 (fun S' => hp_mono Si S' ∧ Q S')) args s 0 0 (fun q => B < q)) (F0 m 182 ls []) := by
                      intro v3' Sk H locs ls hI hl hR ms
                      rw [hKe182] at hI
                      exact ih182 v3' Sk H locs ls (Nat.lt_of_lt_of_le hI.2 (Nat.le_of_lt_succ hN)) hI.1 hl hR ms
                    unfold wb_X1_pay_182 at h
                    refine hp_iload_n E hl 3 rfl 3 rfl dX1_pay_182 (rfl : 182 + 1 = 183) ?_
                    refine hp_iload_n E hl 1 rfl 1 rfl dX1_pay_183 (rfl : 183 + 1 = 184) ?_
                    refine hp_icmp_gt E dX1_pay_184 (rfl : 184 + 3 = 187) (tgt := 210) (by decide) (fun hb => ?_) (fun hb => ?_)
                    · have h := h.1 hb
                      refine hp_aload_n E hl 0 rfl 0 rfl dX1_pay_187 (rfl : 187 + 1 = 188) ?_
                      refine hp_aload_n E hl 0 rfl 0 rfl dX1_pay_188 (rfl : 188 + 1 = 189) ?_
                      refine hp_getR E hR in_X1 (hp_mono.c hm hc0) rfl 9 (Nat.le_of_ble_eq_true rfl) rfl q329 (fun _ h => h) dX1_pay_189 (rfl : 189 + 3 = 192) ?_
                      refine hp_iload_n E hl 2 rfl 2 rfl dX1_pay_192 (rfl : 192 + 1 = 193) ?_
                      obtain ⟨hc18201, h⟩ := h
                      refine hp_fa (hp_rV E hR hl (m_J2_get G _ _ _ _ hc18201 h) hc18201 (ci := 16) rfl rfl q727 q728 q729 q78 q730 nf_J2_get ⟨Nat.le_of_ble_eq_true rfl, Nat.le_of_ble_eq_true rfl⟩ (rest := [hp_v B o]) rfl (Nat.le_of_ble_eq_true rfl) dX1_pay_193 ⟨Nat.le_of_ble_eq_true rfl, Nat.le_of_ble_eq_true rfl⟩) hR (rfl : 193 + 3 = 196) (fun z18202 Sx H locs hq hR => ?_)
                      obtain ⟨hSx, h⟩ := hq
                      rw [hSx] at hR
                      obtain ⟨hc18203, h⟩ := h
                      refine hp_or2 hc18203 (fun hc kk => hp_castS E hR hc (ci := 10) rfl q778 dX1_pay_196 (rfl : 196 + 3 = 199) kk) (fun hc kk => hp_castY E hR hc (ci := 11) rfl q778 q1724 dX1_pay_196 (rfl : 196 + 3 = 199) kk) ?_
                      refine hp_iload_n E hl 3 rfl 3 rfl dX1_pay_199 (rfl : 199 + 1 = 200) ?_
                      refine hp_iload_n E hl 1 rfl 1 rfl dX1_pay_200 (rfl : 200 + 1 = 201) ?_
                      refine hp_fv (hp_rV E hR hl (m_X1_pay_2 G _ _ _ _ _ _ (hp_mono.c hm hc0) h) (hp_mono.c hm hc0) (ci := 0) rfl rfl q1001 q1003 qs19 q73 q1004 nf_X1_pay_2 ⟨Nat.le_of_ble_eq_true rfl, Nat.le_of_ble_eq_true rfl⟩ (rest := []) rfl (Nat.le_of_ble_eq_true rfl) dX1_pay_201 ⟨Nat.le_of_ble_eq_true rfl, Nat.le_of_ble_eq_true rfl⟩) hR (rfl : 201 + 3 = 204) (fun S18204 H locs hq hR => ?_)
                      obtain ⟨hm18205, h⟩ := hq
                      have h := h hm18205
                      have hm := hp_mono.tr hm hm18205
                      have ms102 := hp_mono.tr ms102 hm18205
                      have ms157 := hp_mono.tr ms157 hm18205
                      have ms182 := hp_mono.tr ms182 hm18205
                      refine hp_iinc E hl (v3 + (1 : Int32)) 3 (lv' := [(0, hp_v B o), (1, .int v1), (2, .int v2)]) dX1_pay_204 (rfl : 204 + 3 = 207) rfl (by first | rfl | (congr 1)) (by decide) rfl (fun ls hl => ?_)
                      refine hp_goto E (tgt := 182) dX1_pay_207 (by decide) ?_
                      exact hK182 _ _ _ _ _ h (lv_sub hl [1, 2, 3, 0] rfl) hR ms182
                    · have h := h.2 hb
                      refine hp_iinc E hl (v2 + (1 : Int32)) 2 (lv' := [(0, hp_v B o), (1, .int v1), (3, .int v3)]) dX1_pay_210 (rfl : 210 + 3 = 213) rfl (by first | rfl | (congr 1)) (by decide) rfl (fun ls hl => ?_)
                      refine hp_goto E (tgt := 157) dX1_pay_213 (by decide) ?_
                      exact hK157 _ _ _ _ _ h (lv_sub hl [1, 2, 0] rfl) hR ms157
                exact key182 (μ182 v3 Sa182 + 1) v3 _ H locs ls (Nat.lt_succ_self _) hI hl hR hp_mono.rf
              unfold wb_X1_pay_157 at h
              refine hp_iload_n E hl 2 rfl 2 rfl dX1_pay_157 (rfl : 157 + 1 = 158) ?_
              refine hp_aload_n E hl 0 rfl 0 rfl dX1_pay_158 (rfl : 158 + 1 = 159) ?_
              refine hp_getR E hR in_X1 (hp_mono.c hm hc0) rfl 9 (Nat.le_of_ble_eq_true rfl) rfl q329 (fun _ h => h) dX1_pay_159 (rfl : 159 + 3 = 162) ?_
              obtain ⟨hc15701, h⟩ := h
              refine hp_fi (hp_rV E hR hl (m_J2_size G _ _ _ hc15701 h) hc15701 (ci := 16) rfl rfl q691 q545 q546 q78 q547 nf_J2_size ⟨Nat.le_of_ble_eq_true rfl, Nat.le_of_ble_eq_true rfl⟩ (rest := [.int v2]) rfl (Nat.le_of_ble_eq_true rfl) dX1_pay_162 ⟨Nat.le_of_ble_eq_true rfl, Nat.le_of_ble_eq_true rfl⟩) hR (rfl : 162 + 3 = 165) (fun z15702 Sx H locs hq hR => ?_)
              obtain ⟨hSx, h⟩ := hq
              rw [hSx] at hR
              refine hp_icmp_ge E dX1_pay_165 (rfl : 165 + 3 = 168) (tgt := 216) (by decide) (fun hb => ?_) (fun hb => ?_)
              · have h := h.1 hb
                refine hp_iconst E (0 : Int32) (by decide) dX1_pay_168 (rfl : 168 + 1 = 169) ?_
                refine hp_iload_n E hl 1 rfl 1 rfl dX1_pay_169 (rfl : 169 + 1 = 170) ?_
                refine hp_aload_n E hl 0 rfl 0 rfl dX1_pay_170 (rfl : 170 + 1 = 171) ?_
                refine hp_getR E hR in_X1 (hp_mono.c hm hc0) rfl 7 (Nat.le_of_ble_eq_true rfl) rfl q324 (fun _ h => h) dX1_pay_171 (rfl : 171 + 3 = 174) ?_
                obtain ⟨hc15703, h⟩ := h
                refine hp_getIN E hR in_X3 hc15703 rfl 1 (Nat.le_of_ble_eq_true rfl) rfl q188 (fun _ h => h) dX1_pay_174 (rfl : 174 + 3 = 177) ?_
                refine hp_isub E dX1_pay_177 (rfl : 177 + 1 = 178) ?_
                refine hp_max E hl q1000 (Nat.le_of_ble_eq_true rfl) (Nat.le_of_ble_eq_true rfl) (Nat.le_of_ble_eq_true rfl) (Nat.le_of_ble_eq_true rfl) (Nat.le_of_ble_eq_true rfl) dX1_pay_178 (rfl : 178 + 3 = 181) ?_
                refine hp_istore_n E hl 3 rfl (lv' := [(0, hp_v B o), (1, .int v1), (2, .int v2)]) dX1_pay_181 (rfl : 181 + 1 = 182) (by decide) rfl (fun ls hl => ?_)
                exact b182 _ _ _ _ _ _ h (lv_sub hl [1, 2, 3, 0] rfl) hR hm ms102 ms157
              · have h := h.2 hb
                refine hp_iinc E hl (v1 + (1 : Int32)) 1 (lv' := [(0, hp_v B o), (2, .int v2)]) dX1_pay_216 (rfl : 216 + 3 = 219) rfl (by first | rfl | (congr 1)) (by decide) (by simp [hp_vc, hp_ci, hp_cj]) (fun ls hl => ?_)
                refine hp_goto E (tgt := 102) dX1_pay_219 (by decide) ?_
                exact hK102 _ _ _ _ _ h (lv_sub hl [1, 0] rfl) hR ms102
          exact key157 (μ157 v2 Sa157 + 1) v2 _ H locs ls (Nat.lt_succ_self _) hI hl hR hp_mono.rf
        have b155 : ∀ (v1 : Int32) (S : hp_St) (H : Heap) (locs : List Loc) (ls : Array Slot), wb_X1_pay_155 o v1 S K102 Q → lv_has ls 4 [(0, hp_v B o), (1, .int v1)] → hp_S B D s0 S H locs → hp_mono Si S → hp_mono Sa102 S → W p l e ({ frames := 7, cells := 0, slots := 0, locals := 448 } : Room) s m args below meth c H locs 0 0 (MQ below (hp_Qv B D s0 (fun S' => hp_mono Si S' ∧ Q S')) args s 0 0 (fun q => B < q)) (F0 m 155 ls []) := by
          intro v1 S H locs ls h hl hR hm ms102
          unfold wb_X1_pay_155 at h
          refine hp_iconst E (0 : Int32) (by decide) dX1_pay_155 (rfl : 155 + 1 = 156) ?_
          refine hp_istore_n E hl 2 rfl (lv' := [(0, hp_v B o), (1, .int v1)]) dX1_pay_156 (rfl : 156 + 1 = 157) (by decide) rfl (fun ls hl => ?_)
          exact b157 _ _ _ _ _ _ h (lv_sub hl [1, 2, 0] rfl) hR hm ms102
        have b121 : ∀ (v1 : Int32) (v2 : Int32) (S : hp_St) (H : Heap) (locs : List Loc) (ls : Array Slot), wl_X1_pay_121 o v1 v2 S K102 Q → lv_has ls 4 [(0, hp_v B o), (1, .int v1), (2, .int v2)] → hp_S B D s0 S H locs → hp_mono Si S → hp_mono Sa102 S → W p l e ({ frames := 7, cells := 0, slots := 0, locals := 448 } : Room) s m args below meth c H locs 0 0 (MQ below (hp_Qv B D s0 (fun S' => hp_mono Si S' ∧ Q S')) args s 0 0 (fun q => B < q)) (F0 m 121 ls []) := by
          intro v1 v2 S H locs ls h hl hR hm ms102
          obtain ⟨I121, μ121, hI, hst⟩ := h
          obtain ⟨Sa121, eSa121⟩ : ∃ x, x = S := ⟨_, rfl⟩
          subst eSa121
          have key121 : ∀ (N : Nat) (v2 : Int32) (Su121 : hp_St) (H : Heap) (locs : List Loc) (ls : Array Slot), μ121 v2 Su121 < N → I121 v2 Su121 → lv_has ls 4 [(0, hp_v B o), (1, .int v1), (2, .int v2)] → hp_S B D s0 Su121 H locs → hp_mono Sa121 Su121 → W p l e ({ frames := 7, cells := 0, slots := 0, locals := 448 } : Room) s m args below meth c H locs 0 0 (MQ below (hp_Qv B D s0 (fun S' => hp_mono Si S' ∧ Q S')) args s 0 0 (fun q => B < q)) (F0 m 121 ls []) := by
            intro N
            induction N with
            | zero =>
              intro v2 Su121 H locs ls hN
              exact absurd hN (Nat.not_lt_zero _)
            | succ N ih121 =>
              intro v2 Su121 H locs ls hN hI hl hR ms121
              have h := hst v2 Su121 ms121 hI
              have hm := hp_mono.tr hm ms121
              have ms102 := hp_mono.tr ms102 ms121
              obtain ⟨K121, hKe121⟩ : ∃ K : Int32 → hp_St → Prop, K = (fun v2' Sk => I121 v2' Sk ∧ μ121 v2' Sk < μ121 v2 Su121) := ⟨_, rfl⟩
              rw [← hKe121] at h
              have hK121 : ∀ (v2' : Int32) (Sk : hp_St) (H : Heap) (locs : List Loc) (ls : Array Slot), K121 v2' Sk → lv_has ls 4 [(0, hp_v B o), (1, .int v1), (2, .int (v2'))] → hp_S B D s0 Sk H locs → hp_mono Sa121 Sk → W p l e ({ frames := 7, cells := 0, slots := 0, locals := 448 } : Room) s m args below meth c H locs 0 0 (MQ below (hp_Qv B D s0 (fun S' => hp_mono Si S' ∧ Q S')) args s 0 0 (fun q => B < q)) (F0 m 121 ls []) := by
                intro v2' Sk H locs ls hI hl hR ms
                rw [hKe121] at hI
                exact ih121 v2' Sk H locs ls (Nat.lt_of_lt_of_le hI.2 (Nat.le_of_lt_succ hN)) hI.1 hl hR ms
              unfold wb_X1_pay_121 at h
              refine hp_iload_n E hl 2 rfl 2 rfl dX1_pay_121 (rfl : 121 + 1 = 122) ?_
              refine hp_bipush E (8 : Int32) (by decide) dX1_pay_122 (rfl : 122 + 2 = 124) ?_
              refine hp_icmp_ge E dX1_pay_124 (rfl : 124 + 3 = 127) (tgt := 155) (by decide) (fun hb => ?_) (fun hb => ?_)
              · have h := h.1 hb
                refine hp_iload_n E hl 1 rfl 1 rfl dX1_pay_127 (rfl : 127 + 1 = 128) ?_
                refine hp_if_le E dX1_pay_128 (rfl : 128 + 3 = 131) (tgt := 155) (by decide) (fun hb => ?_) (fun hb => ?_)
                · have h := h.1 hb
                  exact b155 _ _ _ _ _ h (lv_sub hl [0, 1] rfl) hR hm ms102
                · have h := h.2 hb
                  refine hp_aload_n E hl 0 rfl 0 rfl dX1_pay_131 (rfl : 131 + 1 = 132) ?_
                  refine hp_getR E hR in_X1 (hp_mono.c hm hc0) rfl 12 (Nat.le_of_ble_eq_true rfl) rfl q334 (fun _ h => h) dX1_pay_132 (rfl : 132 + 3 = 135) ?_
                  refine hp_iload_n E hl 2 rfl 2 rfl dX1_pay_135 (rfl : 135 + 1 = 136) ?_
                  obtain ⟨hc12101, h⟩ := h
                  obtain ⟨hi12102, h⟩ := h
                  refine hp_aald E hR (Or.inr (Or.inl hc12101)) hi12102 dX1_pay_136 (rfl : 136 + 1 = 137) ?_
                  refine hp_iload_n E hl 1 rfl 1 rfl dX1_pay_137 (rfl : 137 + 1 = 138) ?_
                  refine hp_aload_n E hl 0 rfl 0 rfl dX1_pay_138 (rfl : 138 + 1 = 139) ?_
                  refine hp_getR E hR in_X1 (hp_mono.c hm hc0) rfl 12 (Nat.le_of_ble_eq_true rfl) rfl q334 (fun _ h => h) dX1_pay_139 (rfl : 139 + 3 = 142) ?_
                  refine hp_iload_n E hl 2 rfl 2 rfl dX1_pay_142 (rfl : 142 + 1 = 143) ?_
                  obtain ⟨hi12103, h⟩ := h
                  refine hp_aald E hR (Or.inr (Or.inl hc12101)) hi12103 dX1_pay_143 (rfl : 143 + 1 = 144) ?_
                  refine hp_iload_n E hl 1 rfl 1 rfl dX1_pay_144 (rfl : 144 + 1 = 145) ?_
                  refine hp_iconst E (1 : Int32) (by decide) dX1_pay_145 (rfl : 145 + 1 = 146) ?_
                  refine hp_isub E dX1_pay_146 (rfl : 146 + 1 = 147) ?_
                  obtain ⟨hc12104, h⟩ := h
                  obtain ⟨hi12105, h⟩ := h
                  refine hp_iald E hR hc12104 hi12105 dX1_pay_147 (rfl : 147 + 1 = 148) ?_
                  obtain ⟨hi12106, h⟩ := h
                  refine hx_iast E hR hc12104 hi12106 dX1_pay_148 (rfl : 148 + 1 = 149) (fun S12107 H locs e12109 hm12108 hR => ?_)
                  have h := h S12107 e12109
                  have hm := hp_mono.tr hm hm12108
                  have ms102 := hp_mono.tr ms102 hm12108
                  have ms121 := hp_mono.tr ms121 hm12108
                  refine hp_iinc E hl (v2 + (1 : Int32)) 2 (lv' := [(0, hp_v B o), (1, .int v1)]) dX1_pay_149 (rfl : 149 + 3 = 152) rfl (by first | rfl | (congr 1)) (by decide) rfl (fun ls hl => ?_)
                  refine hp_goto E (tgt := 121) dX1_pay_152 (by decide) ?_
                  exact hK121 _ _ _ _ _ h (lv_sub hl [1, 2, 0] rfl) hR ms121
              · have h := h.2 hb
                exact b155 _ _ _ _ _ h (lv_sub hl [0, 1] rfl) hR hm ms102
          exact key121 (μ121 v2 Sa121 + 1) v2 _ H locs ls (Nat.lt_succ_self _) hI hl hR hp_mono.rf
        unfold wb_X1_pay_102 at h
        refine hp_iload_n E hl 1 rfl 1 rfl dX1_pay_102 (rfl : 102 + 1 = 103) ?_
        refine hp_aload_n E hl 0 rfl 0 rfl dX1_pay_103 (rfl : 103 + 1 = 104) ?_
        refine hp_getI E hR in_X1 (hp_mono.c hm hc0) rfl 4 (Nat.le_of_ble_eq_true rfl) rfl q320 (fun _ h => h) dX1_pay_104 (rfl : 104 + 3 = 107) ?_
        refine hp_icmp_gt E dX1_pay_107 (rfl : 107 + 3 = 110) (tgt := 222) (by decide) (fun hb => ?_) (fun hb => ?_)
        · have h := h.1 hb
          refine hp_aload_n E hl 0 rfl 0 rfl dX1_pay_110 (rfl : 110 + 1 = 111) ?_
          refine hp_getR E hR in_X1 (hp_mono.c hm hc0) rfl 13 (Nat.le_of_ble_eq_true rfl) rfl q336 (fun _ h => h) dX1_pay_111 (rfl : 111 + 3 = 114) ?_
          refine hp_iload_n E hl 1 rfl 1 rfl dX1_pay_114 (rfl : 114 + 1 = 115) ?_
          obtain ⟨hc10201, h⟩ := h
          refine hp_fa (hp_rV E hR hl (m_X4_know G _ _ _ _ hc10201 h) hc10201 (ci := 3) rfl rfl q946 q947 q948 q79 q949 nf_X4_know ⟨Nat.le_of_ble_eq_true rfl, Nat.le_of_ble_eq_true rfl⟩ (rest := []) rfl (Nat.le_of_ble_eq_true rfl) dX1_pay_115 ⟨Nat.le_of_ble_eq_true rfl, Nat.le_of_ble_eq_true rfl⟩) hR (rfl : 115 + 3 = 118) (fun z10202 S10203 H locs hq hR => ?_)
          obtain ⟨hm10204, h⟩ := hq
          have h := h hm10204
          have hm := hp_mono.tr hm hm10204
          have ms102 := hp_mono.tr ms102 hm10204
          refine hp_pop E hp_vc dX1_pay_118 (rfl : 118 + 1 = 119) ?_
          refine hp_iconst E (0 : Int32) (by decide) dX1_pay_119 (rfl : 119 + 1 = 120) ?_
          refine hp_istore_n E hl 2 rfl (lv' := [(0, hp_v B o), (1, .int v1)]) dX1_pay_120 (rfl : 120 + 1 = 121) (by decide) rfl (fun ls hl => ?_)
          exact b121 _ _ _ _ _ _ h (lv_sub hl [1, 2, 0] rfl) hR hm ms102
        · have h := h.2 hb
          exact hp_vret E hR ⟨hm, h⟩ (Nat.le_of_ble_eq_true rfl) (Nat.le_of_ble_eq_true rfl) dX1_pay_222
    exact key102 (μ102 v1 Sa102 + 1) v1 _ H locs ls (Nat.lt_succ_self _) hI hl hR hp_mono.rf
  have b65 : ∀ (v1 : Int32) (S : hp_St) (H : Heap) (locs : List Loc) (ls : Array Slot), wl_X1_pay_65 o v1 S Q → lv_has ls 4 [(0, hp_v B o), (1, .int v1)] → hp_S B D s0 S H locs → hp_mono Si S → W p l e ({ frames := 7, cells := 0, slots := 0, locals := 448 } : Room) s m args below meth c H locs 0 0 (MQ below (hp_Qv B D s0 (fun S' => hp_mono Si S' ∧ Q S')) args s 0 0 (fun q => B < q)) (F0 m 65 ls []) := by
    intro v1 S H locs ls h hl hR hm
    obtain ⟨I65, μ65, hI, hst⟩ := h
    obtain ⟨Sa65, eSa65⟩ : ∃ x, x = S := ⟨_, rfl⟩
    subst eSa65
    have key65 : ∀ (N : Nat) (v1 : Int32) (Su65 : hp_St) (H : Heap) (locs : List Loc) (ls : Array Slot), μ65 v1 Su65 < N → I65 v1 Su65 → lv_has ls 4 [(0, hp_v B o), (1, .int v1)] → hp_S B D s0 Su65 H locs → hp_mono Sa65 Su65 → W p l e ({ frames := 7, cells := 0, slots := 0, locals := 448 } : Room) s m args below meth c H locs 0 0 (MQ below (hp_Qv B D s0 (fun S' => hp_mono Si S' ∧ Q S')) args s 0 0 (fun q => B < q)) (F0 m 65 ls []) := by
      intro N
      induction N with
      | zero =>
        intro v1 Su65 H locs ls hN
        exact absurd hN (Nat.not_lt_zero _)
      | succ N ih65 =>
        intro v1 Su65 H locs ls hN hI hl hR ms65
        have h := hst v1 Su65 ms65 hI
        have hm := hp_mono.tr hm ms65
        obtain ⟨K65, hKe65⟩ : ∃ K : Int32 → hp_St → Prop, K = (fun v1' Sk => I65 v1' Sk ∧ μ65 v1' Sk < μ65 v1 Su65) := ⟨_, rfl⟩
        rw [← hKe65] at h
        have hK65 : ∀ (v1' : Int32) (Sk : hp_St) (H : Heap) (locs : List Loc) (ls : Array Slot), K65 v1' Sk → lv_has ls 4 [(0, hp_v B o), (1, .int (v1'))] → hp_S B D s0 Sk H locs → hp_mono Sa65 Sk → W p l e ({ frames := 7, cells := 0, slots := 0, locals := 448 } : Room) s m args below meth c H locs 0 0 (MQ below (hp_Qv B D s0 (fun S' => hp_mono Si S' ∧ Q S')) args s 0 0 (fun q => B < q)) (F0 m 65 ls []) := by
          intro v1' Sk H locs ls hI hl hR ms
          rw [hKe65] at hI
          exact ih65 v1' Sk H locs ls (Nat.lt_of_lt_of_le hI.2 (Nat.le_of_lt_succ hN)) hI.1 hl hR ms
        have b73 : ∀ (v1 : Int32) (v2 : Int32) (S : hp_St) (H : Heap) (locs : List Loc) (ls : Array Slot), wl_X1_pay_73 o v1 v2 S K65 Q → lv_has ls 4 [(0, hp_v B o), (1, .int v1), (2, .int v2)] → hp_S B D s0 S H locs → hp_mono Si S → hp_mono Sa65 S → W p l e ({ frames := 7, cells := 0, slots := 0, locals := 448 } : Room) s m args below meth c H locs 0 0 (MQ below (hp_Qv B D s0 (fun S' => hp_mono Si S' ∧ Q S')) args s 0 0 (fun q => B < q)) (F0 m 73 ls []) := by
          intro v1 v2 S H locs ls h hl hR hm ms65
          obtain ⟨I73, μ73, hI, hst⟩ := h
          obtain ⟨Sa73, eSa73⟩ : ∃ x, x = S := ⟨_, rfl⟩
          subst eSa73
          have key73 : ∀ (N : Nat) (v2 : Int32) (Su73 : hp_St) (H : Heap) (locs : List Loc) (ls : Array Slot), μ73 v2 Su73 < N → I73 v2 Su73 → lv_has ls 4 [(0, hp_v B o), (1, .int v1), (2, .int v2)] → hp_S B D s0 Su73 H locs → hp_mono Sa73 Su73 → W p l e ({ frames := 7, cells := 0, slots := 0, locals := 448 } : Room) s m args below meth c H locs 0 0 (MQ below (hp_Qv B D s0 (fun S' => hp_mono Si S' ∧ Q S')) args s 0 0 (fun q => B < q)) (F0 m 73 ls []) := by
            intro N
            induction N with
            | zero =>
              intro v2 Su73 H locs ls hN
              exact absurd hN (Nat.not_lt_zero _)
            | succ N ih73 =>
              intro v2 Su73 H locs ls hN hI hl hR ms73
              have h := hst v2 Su73 ms73 hI
              have hm := hp_mono.tr hm ms73
              have ms65 := hp_mono.tr ms65 ms73
              obtain ⟨K73, hKe73⟩ : ∃ K : Int32 → hp_St → Prop, K = (fun v2' Sk => I73 v2' Sk ∧ μ73 v2' Sk < μ73 v2 Su73) := ⟨_, rfl⟩
              rw [← hKe73] at h
              have hK73 : ∀ (v2' : Int32) (Sk : hp_St) (H : Heap) (locs : List Loc) (ls : Array Slot), K73 v2' Sk → lv_has ls 4 [(0, hp_v B o), (1, .int v1), (2, .int (v2'))] → hp_S B D s0 Sk H locs → hp_mono Sa73 Sk → W p l e ({ frames := 7, cells := 0, slots := 0, locals := 448 } : Room) s m args below meth c H locs 0 0 (MQ below (hp_Qv B D s0 (fun S' => hp_mono Si S' ∧ Q S')) args s 0 0 (fun q => B < q)) (F0 m 73 ls []) := by
                intro v2' Sk H locs ls hI hl hR ms
                rw [hKe73] at hI
                exact ih73 v2' Sk H locs ls (Nat.lt_of_lt_of_le hI.2 (Nat.le_of_lt_succ hN)) hI.1 hl hR ms
              unfold wb_X1_pay_73 at h
              refine hp_iload_n E hl 2 rfl 2 rfl dX1_pay_73 (rfl : 73 + 1 = 74) ?_
              refine hp_bipush E (80 : Int32) (by decide) dX1_pay_74 (rfl : 74 + 2 = 76) ?_
              refine hp_icmp_ge E dX1_pay_76 (rfl : 76 + 3 = 79) (tgt := 94) (by decide) (fun hb => ?_) (fun hb => ?_)
              · have h := h.1 hb
                refine hp_aload_n E hl 0 rfl 0 rfl dX1_pay_79 (rfl : 79 + 1 = 80) ?_
                refine hp_getR E hR in_X1 (hp_mono.c hm hc0) rfl 12 (Nat.le_of_ble_eq_true rfl) rfl q334 (fun _ h => h) dX1_pay_80 (rfl : 80 + 3 = 83) ?_
                refine hp_iload_n E hl 1 rfl 1 rfl dX1_pay_83 (rfl : 83 + 1 = 84) ?_
                obtain ⟨hc7301, h⟩ := h
                obtain ⟨hi7302, h⟩ := h
                refine hp_aald E hR (Or.inr (Or.inl hc7301)) hi7302 dX1_pay_84 (rfl : 84 + 1 = 85) ?_
                refine hp_iload_n E hl 2 rfl 2 rfl dX1_pay_85 (rfl : 85 + 1 = 86) ?_
                refine hp_iconst E (0 : Int32) (by decide) dX1_pay_86 (rfl : 86 + 1 = 87) ?_
                obtain ⟨hc7303, h⟩ := h
                obtain ⟨hi7304, h⟩ := h
                refine hx_iast E hR hc7303 hi7304 dX1_pay_87 (rfl : 87 + 1 = 88) (fun S7305 H locs e7307 hm7306 hR => ?_)
                have h := h S7305 e7307
                have hm := hp_mono.tr hm hm7306
                have ms65 := hp_mono.tr ms65 hm7306
                have ms73 := hp_mono.tr ms73 hm7306
                refine hp_iinc E hl (v2 + (1 : Int32)) 2 (lv' := [(0, hp_v B o), (1, .int v1)]) dX1_pay_88 (rfl : 88 + 3 = 91) rfl (by first | rfl | (congr 1)) (by decide) rfl (fun ls hl => ?_)
                refine hp_goto E (tgt := 73) dX1_pay_91 (by decide) ?_
                exact hK73 _ _ _ _ _ h (lv_sub hl [1, 2, 0] rfl) hR ms73
              · have h := h.2 hb
                refine hp_iinc E hl (v1 + (1 : Int32)) 1 (lv' := [(0, hp_v B o), (2, .int v2)]) dX1_pay_94 (rfl : 94 + 3 = 97) rfl (by first | rfl | (congr 1)) (by decide) (by simp [hp_vc, hp_ci, hp_cj]) (fun ls hl => ?_)
                refine hp_goto E (tgt := 65) dX1_pay_97 (by decide) ?_
                exact hK65 _ _ _ _ _ h (lv_sub hl [1, 0] rfl) hR ms65
          exact key73 (μ73 v2 Sa73 + 1) v2 _ H locs ls (Nat.lt_succ_self _) hI hl hR hp_mono.rf
        unfold wb_X1_pay_65 at h
        refine hp_iload_n E hl 1 rfl 1 rfl dX1_pay_65 (rfl : 65 + 1 = 66) ?_
        refine hp_bipush E (8 : Int32) (by decide) dX1_pay_66 (rfl : 66 + 2 = 68) ?_
        refine hp_icmp_ge E dX1_pay_68 (rfl : 68 + 3 = 71) (tgt := 100) (by decide) (fun hb => ?_) (fun hb => ?_)
        · have h := h.1 hb
          refine hp_iconst E (0 : Int32) (by decide) dX1_pay_71 (rfl : 71 + 1 = 72) ?_
          refine hp_istore_n E hl 2 rfl (lv' := [(0, hp_v B o), (1, .int v1)]) dX1_pay_72 (rfl : 72 + 1 = 73) (by decide) rfl (fun ls hl => ?_)
          exact b73 _ _ _ _ _ _ h (lv_sub hl [1, 2, 0] rfl) hR hm ms65
        · have h := h.2 hb
          refine hp_iconst E (0 : Int32) (by decide) dX1_pay_100 (rfl : 100 + 1 = 101) ?_
          refine hp_istore_n E hl 1 rfl (lv' := [(0, hp_v B o)]) dX1_pay_101 (rfl : 101 + 1 = 102) (by decide) (by simp [hp_vc, hp_ci, hp_cj]) (fun ls hl => ?_)
          exact b102 _ _ _ _ _ h (lv_sub hl [1, 0] rfl) hR hm
    exact key65 (μ65 v1 Sa65 + 1) v1 _ H locs ls (Nat.lt_succ_self _) hI hl hR hp_mono.rf
  have b15 : ∀ (v1 : Int32) (S : hp_St) (H : Heap) (locs : List Loc) (ls : Array Slot), wl_X1_pay_15 o v1 S Q → lv_has ls 4 [(0, hp_v B o), (1, .int v1)] → hp_S B D s0 S H locs → hp_mono Si S → W p l e ({ frames := 7, cells := 0, slots := 0, locals := 448 } : Room) s m args below meth c H locs 0 0 (MQ below (hp_Qv B D s0 (fun S' => hp_mono Si S' ∧ Q S')) args s 0 0 (fun q => B < q)) (F0 m 15 ls []) := by
    intro v1 S H locs ls h hl hR hm
    obtain ⟨I15, μ15, hI, hst⟩ := h
    obtain ⟨Sa15, eSa15⟩ : ∃ x, x = S := ⟨_, rfl⟩
    subst eSa15
    have key15 : ∀ (N : Nat) (v1 : Int32) (Su15 : hp_St) (H : Heap) (locs : List Loc) (ls : Array Slot), μ15 v1 Su15 < N → I15 v1 Su15 → lv_has ls 4 [(0, hp_v B o), (1, .int v1)] → hp_S B D s0 Su15 H locs → hp_mono Sa15 Su15 → W p l e ({ frames := 7, cells := 0, slots := 0, locals := 448 } : Room) s m args below meth c H locs 0 0 (MQ below (hp_Qv B D s0 (fun S' => hp_mono Si S' ∧ Q S')) args s 0 0 (fun q => B < q)) (F0 m 15 ls []) := by
      intro N
      induction N with
      | zero =>
        intro v1 Su15 H locs ls hN
        exact absurd hN (Nat.not_lt_zero _)
      | succ N ih15 =>
        intro v1 Su15 H locs ls hN hI hl hR ms15
        have h := hst v1 Su15 ms15 hI
        have hm := hp_mono.tr hm ms15
        obtain ⟨K15, hKe15⟩ : ∃ K : Int32 → hp_St → Prop, K = (fun v1' Sk => I15 v1' Sk ∧ μ15 v1' Sk < μ15 v1 Su15) := ⟨_, rfl⟩
        rw [← hKe15] at h
        have hK15 : ∀ (v1' : Int32) (Sk : hp_St) (H : Heap) (locs : List Loc) (ls : Array Slot), K15 v1' Sk → lv_has ls 4 [(0, hp_v B o), (1, .int (v1'))] → hp_S B D s0 Sk H locs → hp_mono Sa15 Sk → W p l e ({ frames := 7, cells := 0, slots := 0, locals := 448 } : Room) s m args below meth c H locs 0 0 (MQ below (hp_Qv B D s0 (fun S' => hp_mono Si S' ∧ Q S')) args s 0 0 (fun q => B < q)) (F0 m 15 ls []) := by
          intro v1' Sk H locs ls hI hl hR ms
          rw [hKe15] at hI
          exact ih15 v1' Sk H locs ls (Nat.lt_of_lt_of_le hI.2 (Nat.le_of_lt_succ hN)) hI.1 hl hR ms
        have b28 : ∀ (v1 : Int32) (v2 : Int32) (S : hp_St) (H : Heap) (locs : List Loc) (ls : Array Slot), wl_X1_pay_28 o v1 v2 S K15 Q → lv_has ls 4 [(0, hp_v B o), (1, .int v1), (2, .int v2)] → hp_S B D s0 S H locs → hp_mono Si S → hp_mono Sa15 S → W p l e ({ frames := 7, cells := 0, slots := 0, locals := 448 } : Room) s m args below meth c H locs 0 0 (MQ below (hp_Qv B D s0 (fun S' => hp_mono Si S' ∧ Q S')) args s 0 0 (fun q => B < q)) (F0 m 28 ls []) := by
          intro v1 v2 S H locs ls h hl hR hm ms15
          obtain ⟨I28, μ28, hI, hst⟩ := h
          obtain ⟨Sa28, eSa28⟩ : ∃ x, x = S := ⟨_, rfl⟩
          subst eSa28
          have key28 : ∀ (N : Nat) (v2 : Int32) (Su28 : hp_St) (H : Heap) (locs : List Loc) (ls : Array Slot), μ28 v2 Su28 < N → I28 v2 Su28 → lv_has ls 4 [(0, hp_v B o), (1, .int v1), (2, .int v2)] → hp_S B D s0 Su28 H locs → hp_mono Sa28 Su28 → W p l e ({ frames := 7, cells := 0, slots := 0, locals := 448 } : Room) s m args below meth c H locs 0 0 (MQ below (hp_Qv B D s0 (fun S' => hp_mono Si S' ∧ Q S')) args s 0 0 (fun q => B < q)) (F0 m 28 ls []) := by
            intro N
            induction N with
            | zero =>
              intro v2 Su28 H locs ls hN
              exact absurd hN (Nat.not_lt_zero _)
            | succ N ih28 =>
              intro v2 Su28 H locs ls hN hI hl hR ms28
              have h := hst v2 Su28 ms28 hI
              have hm := hp_mono.tr hm ms28
              have ms15 := hp_mono.tr ms15 ms28
              obtain ⟨K28, hKe28⟩ : ∃ K : Int32 → hp_St → Prop, K = (fun v2' Sk => I28 v2' Sk ∧ μ28 v2' Sk < μ28 v2 Su28) := ⟨_, rfl⟩
              rw [← hKe28] at h
              have hK28 : ∀ (v2' : Int32) (Sk : hp_St) (H : Heap) (locs : List Loc) (ls : Array Slot), K28 v2' Sk → lv_has ls 4 [(0, hp_v B o), (1, .int v1), (2, .int (v2'))] → hp_S B D s0 Sk H locs → hp_mono Sa28 Sk → W p l e ({ frames := 7, cells := 0, slots := 0, locals := 448 } : Room) s m args below meth c H locs 0 0 (MQ below (hp_Qv B D s0 (fun S' => hp_mono Si S' ∧ Q S')) args s 0 0 (fun q => B < q)) (F0 m 28 ls []) := by
                intro v2' Sk H locs ls hI hl hR ms
                rw [hKe28] at hI
                exact ih28 v2' Sk H locs ls (Nat.lt_of_lt_of_le hI.2 (Nat.le_of_lt_succ hN)) hI.1 hl hR ms
              unfold wb_X1_pay_28 at h
              refine hp_iload_n E hl 2 rfl 2 rfl dX1_pay_28 (rfl : 28 + 1 = 29) ?_
              refine hp_bipush E (80 : Int32) (by decide) dX1_pay_29 (rfl : 29 + 2 = 31) ?_
              refine hp_icmp_ge E dX1_pay_31 (rfl : 31 + 3 = 34) (tgt := 57) (by decide) (fun hb => ?_) (fun hb => ?_)
              · have h := h.1 hb
                refine hp_aload_n E hl 0 rfl 0 rfl dX1_pay_34 (rfl : 34 + 1 = 35) ?_
                refine hp_getR E hR in_X1 (hp_mono.c hm hc0) rfl 9 (Nat.le_of_ble_eq_true rfl) rfl q329 (fun _ h => h) dX1_pay_35 (rfl : 35 + 3 = 38) ?_
                refine hp_iload_n E hl 1 rfl 1 rfl dX1_pay_38 (rfl : 38 + 1 = 39) ?_
                obtain ⟨hc2801, h⟩ := h
                refine hp_fa (hp_rV E hR hl (m_J2_get G _ _ _ _ hc2801 h) hc2801 (ci := 16) rfl rfl q727 q728 q729 q78 q730 nf_J2_get ⟨Nat.le_of_ble_eq_true rfl, Nat.le_of_ble_eq_true rfl⟩ (rest := []) rfl (Nat.le_of_ble_eq_true rfl) dX1_pay_39 ⟨Nat.le_of_ble_eq_true rfl, Nat.le_of_ble_eq_true rfl⟩) hR (rfl : 39 + 3 = 42) (fun z2802 Sx H locs hq hR => ?_)
                obtain ⟨hSx, h⟩ := hq
                rw [hSx] at hR
                obtain ⟨hc2803, h⟩ := h
                refine hp_or2 hc2803 (fun hc kk => hp_castS E hR hc (ci := 10) rfl q778 dX1_pay_42 (rfl : 42 + 3 = 45) kk) (fun hc kk => hp_castY E hR hc (ci := 11) rfl q778 q1724 dX1_pay_42 (rfl : 42 + 3 = 45) kk) ?_
                refine hp_or2 hc2803 (fun hc kk => hp_getRN E hR in_X11 hc rfl 5 (Nat.le_of_ble_eq_true rfl) rfl q800 (fun _ h => h) dX1_pay_45 (rfl : 45 + 3 = 48) kk) (fun hc kk => hp_getRN E hR in_X12 hc rfl 5 (Nat.le_of_ble_eq_true rfl) rfl q800 (fun _ h => h) dX1_pay_45 (rfl : 45 + 3 = 48) kk) ?_
                refine hp_iload_n E hl 2 rfl 2 rfl dX1_pay_48 (rfl : 48 + 1 = 49) ?_
                refine hp_iconst E (-1 : Int32) (by decide) dX1_pay_49 (rfl : 49 + 1 = 50) ?_
                obtain ⟨hc2804, h⟩ := h
                obtain ⟨hi2805, h⟩ := h
                refine hx_iast E hR hc2804 hi2805 dX1_pay_50 (rfl : 50 + 1 = 51) (fun S2806 H locs e2808 hm2807 hR => ?_)
                have h := h S2806 e2808
                have hm := hp_mono.tr hm hm2807
                have ms15 := hp_mono.tr ms15 hm2807
                have ms28 := hp_mono.tr ms28 hm2807
                refine hp_iinc E hl (v2 + (1 : Int32)) 2 (lv' := [(0, hp_v B o), (1, .int v1)]) dX1_pay_51 (rfl : 51 + 3 = 54) rfl (by first | rfl | (congr 1)) (by decide) rfl (fun ls hl => ?_)
                refine hp_goto E (tgt := 28) dX1_pay_54 (by decide) ?_
                exact hK28 _ _ _ _ _ h (lv_sub hl [1, 2, 0] rfl) hR ms28
              · have h := h.2 hb
                refine hp_iinc E hl (v1 + (1 : Int32)) 1 (lv' := [(0, hp_v B o), (2, .int v2)]) dX1_pay_57 (rfl : 57 + 3 = 60) rfl (by first | rfl | (congr 1)) (by decide) (by simp [hp_vc, hp_ci, hp_cj]) (fun ls hl => ?_)
                refine hp_goto E (tgt := 15) dX1_pay_60 (by decide) ?_
                exact hK15 _ _ _ _ _ h (lv_sub hl [1, 0] rfl) hR ms15
          exact key28 (μ28 v2 Sa28 + 1) v2 _ H locs ls (Nat.lt_succ_self _) hI hl hR hp_mono.rf
        unfold wb_X1_pay_15 at h
        refine hp_iload_n E hl 1 rfl 1 rfl dX1_pay_15 (rfl : 15 + 1 = 16) ?_
        refine hp_aload_n E hl 0 rfl 0 rfl dX1_pay_16 (rfl : 16 + 1 = 17) ?_
        refine hp_getR E hR in_X1 (hp_mono.c hm hc0) rfl 9 (Nat.le_of_ble_eq_true rfl) rfl q329 (fun _ h => h) dX1_pay_17 (rfl : 17 + 3 = 20) ?_
        obtain ⟨hc1501, h⟩ := h
        refine hp_fi (hp_rV E hR hl (m_J2_size G _ _ _ hc1501 h) hc1501 (ci := 16) rfl rfl q691 q545 q546 q78 q547 nf_J2_size ⟨Nat.le_of_ble_eq_true rfl, Nat.le_of_ble_eq_true rfl⟩ (rest := [.int v1]) rfl (Nat.le_of_ble_eq_true rfl) dX1_pay_20 ⟨Nat.le_of_ble_eq_true rfl, Nat.le_of_ble_eq_true rfl⟩) hR (rfl : 20 + 3 = 23) (fun z1502 Sx H locs hq hR => ?_)
        obtain ⟨hSx, h⟩ := hq
        rw [hSx] at hR
        refine hp_icmp_ge E dX1_pay_23 (rfl : 23 + 3 = 26) (tgt := 63) (by decide) (fun hb => ?_) (fun hb => ?_)
        · have h := h.1 hb
          refine hp_iconst E (0 : Int32) (by decide) dX1_pay_26 (rfl : 26 + 1 = 27) ?_
          refine hp_istore_n E hl 2 rfl (lv' := [(0, hp_v B o), (1, .int v1)]) dX1_pay_27 (rfl : 27 + 1 = 28) (by decide) rfl (fun ls hl => ?_)
          exact b28 _ _ _ _ _ _ h (lv_sub hl [1, 2, 0] rfl) hR hm ms15
        · have h := h.2 hb
          refine hp_iconst E (0 : Int32) (by decide) dX1_pay_63 (rfl : 63 + 1 = 64) ?_
          refine hp_istore_n E hl 1 rfl (lv' := [(0, hp_v B o)]) dX1_pay_64 (rfl : 64 + 1 = 65) (by decide) (by simp [hp_vc, hp_ci, hp_cj]) (fun ls hl => ?_)
          exact b65 _ _ _ _ _ h (lv_sub hl [1, 0] rfl) hR hm
    exact key15 (μ15 v1 Sa15 + 1) v1 _ H locs ls (Nat.lt_succ_self _) hI hl hR hp_mono.rf
  unfold wp_X1_pay at h
  refine hp_aload_n E hl 0 rfl 0 rfl dX1_pay_0 (rfl : 0 + 1 = 1) ?_
  refine hp_getI E hR in_X1 hc0 rfl 17 (Nat.le_of_ble_eq_true rfl) rfl q340 (fun _ h => h) dX1_pay_1 (rfl : 1 + 3 = 4) ?_
  refine hp_if_eq E dX1_pay_4 (rfl : 4 + 3 = 7) (tgt := 8) (by decide) (fun hb => ?_) (fun hb => ?_)
  · have h := h.1 hb
    refine hp_aload_n E hl 0 rfl 0 rfl dX1_pay_8 (rfl : 8 + 1 = 9) ?_
    refine hp_iconst E (1 : Int32) (by decide) dX1_pay_9 (rfl : 9 + 1 = 10) ?_
    refine hx_putI E hR in_X1 tyX1 tyX1_ok nmX1 hc0 rfl 17 (Nat.le_of_ble_eq_true rfl) rfl q340 (fun _ h => h) (Or.inl rfl) (Or.inr ⟨rfl, (Or.inr rfl)⟩) dX1_pay_10 (rfl : 10 + 3 = 13) (fun S1 H locs e3 hm2 hR => ?_)
    have h := h S1 e3
    have hm := hp_mono.tr hm hm2
    refine hp_iconst E (0 : Int32) (by decide) dX1_pay_13 (rfl : 13 + 1 = 14) ?_
    refine hp_istore_n E hl 1 rfl (lv' := [(0, hp_v B o)]) dX1_pay_14 (rfl : 14 + 1 = 15) (by decide) (by simp [hp_vc, hp_ci, hp_cj]) (fun ls hl => ?_)
    exact b15 _ _ _ _ _ h (lv_sub hl [1, 0] rfl) hR hm
  · have h := h.2 hb
    exact hp_vret E hR ⟨hm, h⟩ (Nat.le_of_ble_eq_true rfl) (Nat.le_of_ble_eq_true rfl) dX1_pay_7
def wb_X1_paid_28 (o : Nat) (a1 : Int32) (a2 : Int32) (a3 : Int32) (S : hp_St) (Q : Int32 → hp_St → Prop) : Prop := Q (-1 : Int32) S
def wb_X1_paid_97 (o : Nat) (a1 : Int32) (a2 : Int32) (a3 : Int32) (t0 : Int32) (S : hp_St) (Q : Int32 → hp_St → Prop) : Prop := Q t0 S
def wb_X1_paid_96 (o : Nat) (a1 : Int32) (a2 : Int32) (a3 : Int32) (S : hp_St) (Q : Int32 → hp_St → Prop) : Prop := wb_X1_paid_97 o a1 a2 a3 (0 : Int32) S Q
def wb_X1_paid_92 (o : Nat) (a1 : Int32) (a2 : Int32) (a3 : Int32) (S : hp_St) (Q : Int32 → hp_St → Prop) : Prop := wb_X1_paid_97 o a1 a2 a3 (1 : Int32) S Q
def wp_X1_paid (o : Nat) (a1 : Int32) (a2 : Int32) (a3 : Int32) (S : hp_St) (Q : Int32 → hp_St → Prop) : Prop := wp_X1_aRent o a1 S (fun z1 => (((z1 = 0) → wb_X1_paid_28 o a1 a2 a3 S Q) ∧ ((¬ (z1 = 0)) → wp_X1_isHalf a2 S (fun z2 => (((z2 = 0) → wb_X1_paid_28 o a1 a2 a3 S Q) ∧ ((¬ (z2 = 0)) → wp_X1_in a3 (0 : Int32) (2 : Int32) S (fun z3 => (((z3 = 0) → wb_X1_paid_28 o a1 a2 a3 S Q) ∧ ((¬ (z3 = 0)) → wp_X1_pay o S (fun S4 => hp_mono S S4 → (((a3 = 0) → (st_C S4 z1 = 11 ∨ st_C S4 z1 = 12) ∧ (st_C S4 (st_R S4 z1 5) = 50) ∧ (vp_in a2 (st_L S4 (st_R S4 z1 5))) ∧ Q (st_I S4 (st_R S4 z1 5) a2.toNatClampNeg) S4) ∧ ((¬ (a3 = 0)) → (st_C S4 (st_R S4 o 13) = 4) ∧ wp_X4_know (st_R S4 o 13) (st_I S4 o 4) S4 (fun z10 S11 => hp_mono S4 S11 → (((a3 = (1 : Int32)) → (st_C S11 (st_R S11 o 13) = 4) ∧ wp_X4_isDue (st_R S11 o 13) z1 a2 S11 (fun z14 => (((z14 = 0) → wb_X1_paid_96 o a1 a2 a3 S11 Q) ∧ ((¬ (z14 = 0)) → wb_X1_paid_92 o a1 a2 a3 S11 Q)))) ∧ ((¬ (a3 = (1 : Int32))) → (st_C S11 (st_R S11 o 13) = 4) ∧ wp_X4_isProved (st_R S11 o 13) z1 a2 S11 (fun z16 => (((z16 = 0) → wb_X1_paid_96 o a1 a2 a3 S11 Q) ∧ ((¬ (z16 = 0)) → wb_X1_paid_92 o a1 a2 a3 S11 Q))))))))))))))))))
theorem nf_X1_paid : hp_nf yX1_paid 3 = true := by decide +kernel
set_option maxHeartbeats 4000000 in
theorem m_X1_paid {l : Launch} {B : Nat} {D : va_G} {s0 : State} {b0 : Nat} (G : hp_G l B D s0 b0) (o : Nat) (a1 : Int32) (a2 : Int32) (a3 : Int32) (Si : hp_St) (Q : Int32 → hp_St → Prop) (hc0 : st_C Si o = 1) (h : wp_X1_paid o a1 a2 a3 Si Q) : hp_M l B D s0 yX1_paid cX1_paid 5 (some .int) 8 512 0 0 [hp_v B o, .int a1, .int a2, .int a3] Si (hp_Qi B D s0 (fun r S' => hp_mono Si S' ∧ Q r S')) := by
  refine hp_start G (by decide +kernel) rfl rfl (lv := [(0, hp_v B o), (1, .int a1), (2, .int a2), (3, .int a3)]) (by simp [lg_sl, hp_vc, hp_ci, hp_cj]) (by simp [lv_args, hp_vc, hp_ci, hp_cj]) ?_
  intro p e s m args below meth c E ls hl hR
  have hm : hp_mono Si Si := hp_mono.rf
  generalize hH : s.heap = H at hR ⊢
  generalize hLo : ([] : List Loc) = locs at hR ⊢
  have b28 : ∀ (S : hp_St) (H : Heap) (locs : List Loc) (ls : Array Slot), wb_X1_paid_28 o a1 a2 a3 S Q → lv_has ls 5 [] → hp_S B D s0 S H locs → hp_mono Si S → W p l e ({ frames := 8, cells := 0, slots := 0, locals := 512 } : Room) s m args below meth c H locs 0 0 (MQ below (hp_Qi B D s0 (fun r S' => hp_mono Si S' ∧ Q r S')) args s 0 0 (fun q => B < q)) (F0 m 28 ls []) := by
    intro S H locs ls h hl hR hm
    unfold wb_X1_paid_28 at h
    refine hp_iconst E (-1 : Int32) (by decide) dX1_paid_28 (rfl : 28 + 1 = 29) ?_
    exact hp_iret E hR ⟨hm, h⟩ (Nat.le_of_ble_eq_true rfl) (Nat.le_of_ble_eq_true rfl) dX1_paid_29
  have b97 : ∀ (t0 : Int32) (S : hp_St) (H : Heap) (locs : List Loc) (ls : Array Slot), wb_X1_paid_97 o a1 a2 a3 t0 S Q → lv_has ls 5 [] → hp_S B D s0 S H locs → hp_mono Si S → W p l e ({ frames := 8, cells := 0, slots := 0, locals := 512 } : Room) s m args below meth c H locs 0 0 (MQ below (hp_Qi B D s0 (fun r S' => hp_mono Si S' ∧ Q r S')) args s 0 0 (fun q => B < q)) (F0 m 97 ls [.int t0]) := by
    intro t0 S H locs ls h hl hR hm
    unfold wb_X1_paid_97 at h
    exact hp_iret E hR ⟨hm, h⟩ (Nat.le_of_ble_eq_true rfl) (Nat.le_of_ble_eq_true rfl) dX1_paid_97
  have b96 : ∀ (S : hp_St) (H : Heap) (locs : List Loc) (ls : Array Slot), wb_X1_paid_96 o a1 a2 a3 S Q → lv_has ls 5 [] → hp_S B D s0 S H locs → hp_mono Si S → W p l e ({ frames := 8, cells := 0, slots := 0, locals := 512 } : Room) s m args below meth c H locs 0 0 (MQ below (hp_Qi B D s0 (fun r S' => hp_mono Si S' ∧ Q r S')) args s 0 0 (fun q => B < q)) (F0 m 96 ls []) := by
    intro S H locs ls h hl hR hm
    unfold wb_X1_paid_96 at h
    refine hp_iconst E (0 : Int32) (by decide) dX1_paid_96 (rfl : 96 + 1 = 97) ?_
    exact b97 _ _ _ _ _ h hl hR hm
  have b92 : ∀ (S : hp_St) (H : Heap) (locs : List Loc) (ls : Array Slot), wb_X1_paid_92 o a1 a2 a3 S Q → lv_has ls 5 [] → hp_S B D s0 S H locs → hp_mono Si S → W p l e ({ frames := 8, cells := 0, slots := 0, locals := 512 } : Room) s m args below meth c H locs 0 0 (MQ below (hp_Qi B D s0 (fun r S' => hp_mono Si S' ∧ Q r S')) args s 0 0 (fun q => B < q)) (F0 m 92 ls []) := by
    intro S H locs ls h hl hR hm
    unfold wb_X1_paid_92 at h
    refine hp_iconst E (1 : Int32) (by decide) dX1_paid_92 (rfl : 92 + 1 = 93) ?_
    refine hp_goto E (tgt := 97) dX1_paid_93 (by decide) ?_
    exact b97 _ _ _ _ _ h hl hR hm
  unfold wp_X1_paid at h
  refine hp_aload_n E hl 0 rfl 0 rfl dX1_paid_0 (rfl : 0 + 1 = 1) ?_
  refine hp_iload_n E hl 1 rfl 1 rfl dX1_paid_1 (rfl : 1 + 1 = 2) ?_
  refine hp_fa (hp_rV E hR hl (m_X1_aRent G _ _ _ _ hc0 h) hc0 (ci := 0) rfl rfl q839 q841 qs17 q73 q842 nf_X1_aRent ⟨Nat.le_of_ble_eq_true rfl, Nat.le_of_ble_eq_true rfl⟩ (rest := []) rfl (Nat.le_of_ble_eq_true rfl) dX1_paid_2 ⟨Nat.le_of_ble_eq_true rfl, Nat.le_of_ble_eq_true rfl⟩) hR (rfl : 2 + 3 = 5) (fun z1 Sx H locs hq hR => ?_)
  obtain ⟨hSx, h⟩ := hq
  rw [hSx] at hR
  refine hp_astore E hl 4 (lv' := [(0, hp_v B o), (1, .int a1), (2, .int a2), (3, .int a3)]) dX1_paid_5 (rfl : 5 + 2 = 7) (by decide) rfl (fun ls hl => ?_)
  refine hp_aload E hl 0 rfl dX1_paid_7 (rfl : 7 + 2 = 9) ?_
  refine hp_ifnull E dX1_paid_9 (rfl : 9 + 3 = 12) (tgt := 28) (by decide) (fun hb => ?_) (fun hb => ?_)
  · have h := h.1 hb
    exact b28 _ _ _ _ h (lv_sub hl [] rfl) hR hm
  · have h := h.2 hb
    refine hp_iload_n E hl 2 rfl 3 rfl dX1_paid_12 (rfl : 12 + 1 = 13) ?_
    refine hp_fi (hp_rS E hR hl (m_X1_isHalf G _ _ _ h) q879 q880 q73 q881 nf_X1_isHalf ⟨Nat.le_of_ble_eq_true rfl, Nat.le_of_ble_eq_true rfl⟩ (rest := []) rfl (Nat.le_of_ble_eq_true rfl) dX1_paid_13 ⟨Nat.le_of_ble_eq_true rfl, Nat.le_of_ble_eq_true rfl⟩) hR (rfl : 13 + 3 = 16) (fun z2 Sx H locs hq hR => ?_)
    obtain ⟨hSx, h⟩ := hq
    rw [hSx] at hR
    refine hp_if_eq E dX1_paid_16 (rfl : 16 + 3 = 19) (tgt := 28) (by decide) (fun hb => ?_) (fun hb => ?_)
    · have h := h.1 hb
      exact b28 _ _ _ _ h (lv_sub hl [] rfl) hR hm
    · have h := h.2 hb
      refine hp_iload_n E hl 3 rfl 4 rfl dX1_paid_19 (rfl : 19 + 1 = 20) ?_
      refine hp_iconst E (0 : Int32) (by decide) dX1_paid_20 (rfl : 20 + 1 = 21) ?_
      refine hp_iconst E (2 : Int32) (by decide) dX1_paid_21 (rfl : 21 + 1 = 22) ?_
      refine hp_fi (hp_rS E hR hl (m_X1_in G _ _ _ _ _ h) q394 q395 q73 q396 nf_X1_in ⟨Nat.le_of_ble_eq_true rfl, Nat.le_of_ble_eq_true rfl⟩ (rest := []) rfl (Nat.le_of_ble_eq_true rfl) dX1_paid_22 ⟨Nat.le_of_ble_eq_true rfl, Nat.le_of_ble_eq_true rfl⟩) hR (rfl : 22 + 3 = 25) (fun z3 Sx H locs hq hR => ?_)
      obtain ⟨hSx, h⟩ := hq
      rw [hSx] at hR
      refine hp_if_ne E dX1_paid_25 (rfl : 25 + 3 = 28) (tgt := 30) (by decide) (fun hb => ?_) (fun hb => ?_)
      · have h := h.1 hb
        exact b28 _ _ _ _ h (lv_sub hl [] rfl) hR hm
      · have h := h.2 hb
        refine hp_aload_n E hl 0 rfl 1 rfl dX1_paid_30 (rfl : 30 + 1 = 31) ?_
        refine hp_fv (hp_rV E hR hl (m_X1_pay G _ _ _ hc0 h) hc0 (ci := 0) rfl rfl q996 q998 qs18 q73 q999 nf_X1_pay ⟨Nat.le_of_ble_eq_true rfl, Nat.le_of_ble_eq_true rfl⟩ (rest := []) rfl (Nat.le_of_ble_eq_true rfl) dX1_paid_31 ⟨Nat.le_of_ble_eq_true rfl, Nat.le_of_ble_eq_true rfl⟩) hR (rfl : 31 + 3 = 34) (fun S4 H locs hq hR => ?_)
        obtain ⟨hm5, h⟩ := hq
        have h := h hm5
        have hm := hp_mono.tr hm hm5
        refine hp_iload_n E hl 3 rfl 4 rfl dX1_paid_34 (rfl : 34 + 1 = 35) ?_
        refine hp_if_ne E dX1_paid_35 (rfl : 35 + 3 = 38) (tgt := 46) (by decide) (fun hb => ?_) (fun hb => ?_)
        · have h := h.1 hb
          refine hp_aload E hl 0 rfl dX1_paid_38 (rfl : 38 + 2 = 40) ?_
          obtain ⟨hc6, h⟩ := h
          refine hp_or2 hc6 (fun hc kk => hp_getRN E hR in_X11 hc rfl 5 (Nat.le_of_ble_eq_true rfl) rfl q800 (fun _ h => h) dX1_paid_40 (rfl : 40 + 3 = 43) kk) (fun hc kk => hp_getRN E hR in_X12 hc rfl 5 (Nat.le_of_ble_eq_true rfl) rfl q800 (fun _ h => h) dX1_paid_40 (rfl : 40 + 3 = 43) kk) ?_
          refine hp_iload_n E hl 2 rfl 3 rfl dX1_paid_43 (rfl : 43 + 1 = 44) ?_
          obtain ⟨hc7, h⟩ := h
          obtain ⟨hi8, h⟩ := h
          refine hp_iald E hR hc7 hi8 dX1_paid_44 (rfl : 44 + 1 = 45) ?_
          exact hp_iret E hR ⟨hm, h⟩ (Nat.le_of_ble_eq_true rfl) (Nat.le_of_ble_eq_true rfl) dX1_paid_45
        · have h := h.2 hb
          refine hp_aload_n E hl 0 rfl 1 rfl dX1_paid_46 (rfl : 46 + 1 = 47) ?_
          refine hp_getR E hR in_X1 (hp_mono.c hm hc0) rfl 13 (Nat.le_of_ble_eq_true rfl) rfl q336 (fun _ h => h) dX1_paid_47 (rfl : 47 + 3 = 50) ?_
          refine hp_aload_n E hl 0 rfl 1 rfl dX1_paid_50 (rfl : 50 + 1 = 51) ?_
          refine hp_getI E hR in_X1 (hp_mono.c hm hc0) rfl 4 (Nat.le_of_ble_eq_true rfl) rfl q320 (fun _ h => h) dX1_paid_51 (rfl : 51 + 3 = 54) ?_
          obtain ⟨hc9, h⟩ := h
          refine hp_fa (hp_rV E hR hl (m_X4_know G _ _ _ _ hc9 h) hc9 (ci := 3) rfl rfl q946 q947 q948 q79 q949 nf_X4_know ⟨Nat.le_of_ble_eq_true rfl, Nat.le_of_ble_eq_true rfl⟩ (rest := []) rfl (Nat.le_of_ble_eq_true rfl) dX1_paid_54 ⟨Nat.le_of_ble_eq_true rfl, Nat.le_of_ble_eq_true rfl⟩) hR (rfl : 54 + 3 = 57) (fun z10 S11 H locs hq hR => ?_)
          obtain ⟨hm12, h⟩ := hq
          have h := h hm12
          have hm := hp_mono.tr hm hm12
          refine hp_pop E hp_vc dX1_paid_57 (rfl : 57 + 1 = 58) ?_
          refine hp_iload_n E hl 3 rfl 4 rfl dX1_paid_58 (rfl : 58 + 1 = 59) ?_
          refine hp_iconst E (1 : Int32) (by decide) dX1_paid_59 (rfl : 59 + 1 = 60) ?_
          refine hp_icmp_ne E dX1_paid_60 (rfl : 60 + 3 = 63) (tgt := 79) (by decide) (fun hb => ?_) (fun hb => ?_)
          · have h := h.1 hb
            refine hp_aload_n E hl 0 rfl 1 rfl dX1_paid_63 (rfl : 63 + 1 = 64) ?_
            refine hp_getR E hR in_X1 (hp_mono.c hm hc0) rfl 13 (Nat.le_of_ble_eq_true rfl) rfl q336 (fun _ h => h) dX1_paid_64 (rfl : 64 + 3 = 67) ?_
            refine hp_aload E hl 0 rfl dX1_paid_67 (rfl : 67 + 2 = 69) ?_
            refine hp_iload_n E hl 2 rfl 3 rfl dX1_paid_69 (rfl : 69 + 1 = 70) ?_
            obtain ⟨hc13, h⟩ := h
            refine hp_fi (hp_rV E hR hl (m_X4_isDue G _ _ _ _ _ hc13 h) hc13 (ci := 3) rfl rfl q1005 q1006 q1007 q79 q1008 nf_X4_isDue ⟨Nat.le_of_ble_eq_true rfl, Nat.le_of_ble_eq_true rfl⟩ (rest := []) rfl (Nat.le_of_ble_eq_true rfl) dX1_paid_70 ⟨Nat.le_of_ble_eq_true rfl, Nat.le_of_ble_eq_true rfl⟩) hR (rfl : 70 + 3 = 73) (fun z14 Sx H locs hq hR => ?_)
            obtain ⟨hSx, h⟩ := hq
            rw [hSx] at hR
            refine hp_if_eq E dX1_paid_73 (rfl : 73 + 3 = 76) (tgt := 96) (by decide) (fun hb => ?_) (fun hb => ?_)
            · have h := h.1 hb
              exact b96 _ _ _ _ h (lv_sub hl [] rfl) hR hm
            · have h := h.2 hb
              refine hp_goto E (tgt := 92) dX1_paid_76 (by decide) ?_
              exact b92 _ _ _ _ h (lv_sub hl [] rfl) hR hm
          · have h := h.2 hb
            refine hp_aload_n E hl 0 rfl 1 rfl dX1_paid_79 (rfl : 79 + 1 = 80) ?_
            refine hp_getR E hR in_X1 (hp_mono.c hm hc0) rfl 13 (Nat.le_of_ble_eq_true rfl) rfl q336 (fun _ h => h) dX1_paid_80 (rfl : 80 + 3 = 83) ?_
            refine hp_aload E hl 0 rfl dX1_paid_83 (rfl : 83 + 2 = 85) ?_
            refine hp_iload_n E hl 2 rfl 3 rfl dX1_paid_85 (rfl : 85 + 1 = 86) ?_
            obtain ⟨hc15, h⟩ := h
            refine hp_fi (hp_rV E hR hl (m_X4_isProved G _ _ _ _ _ hc15 h) hc15 (ci := 3) rfl rfl q1021 q1022 q1023 q79 q1024 nf_X4_isProved ⟨Nat.le_of_ble_eq_true rfl, Nat.le_of_ble_eq_true rfl⟩ (rest := []) rfl (Nat.le_of_ble_eq_true rfl) dX1_paid_86 ⟨Nat.le_of_ble_eq_true rfl, Nat.le_of_ble_eq_true rfl⟩) hR (rfl : 86 + 3 = 89) (fun z16 Sx H locs hq hR => ?_)
            obtain ⟨hSx, h⟩ := hq
            rw [hSx] at hR
            refine hp_if_eq E dX1_paid_89 (rfl : 89 + 3 = 92) (tgt := 96) (by decide) (fun hb => ?_) (fun hb => ?_)
            · have h := h.1 hb
              exact b96 _ _ _ _ h (lv_sub hl [] rfl) hR hm
            · have h := h.2 hb
              exact b92 _ _ _ _ h (lv_sub hl [] rfl) hR hm
def wb_X1_got_19 (o : Nat) (a1 : Int32) (a2 : Int32) (S : hp_St) (Q : Int32 → hp_St → Prop) : Prop := Q (-1 : Int32) S
def wp_X1_got (o : Nat) (a1 : Int32) (a2 : Int32) (S : hp_St) (Q : Int32 → hp_St → Prop) : Prop := wp_X1_isHolder a1 S (fun z1 => (((z1 = 0) → wb_X1_got_19 o a1 a2 S Q) ∧ ((¬ (z1 = 0)) → wp_X1_in a2 (0 : Int32) (st_I S o 4) S (fun z2 => (((z2 = 0) → wb_X1_got_19 o a1 a2 S Q) ∧ ((¬ (z2 = 0)) → wp_X1_pay o S (fun S3 => hp_mono S S3 → (st_C S3 (st_R S3 o 12) = 55) ∧ (vp_in a1 (st_L S3 (st_R S3 o 12))) ∧ (st_C S3 (st_R S3 (st_R S3 o 12) a1.toNatClampNeg) = 50) ∧ (vp_in a2 (st_L S3 (st_R S3 (st_R S3 o 12) a1.toNatClampNeg))) ∧ Q (st_I S3 (st_R S3 (st_R S3 o 12) a1.toNatClampNeg) a2.toNatClampNeg) S3)))))))
theorem nf_X1_got : hp_nf yX1_got 2 = true := by decide +kernel
set_option maxHeartbeats 4000000 in
theorem m_X1_got {l : Launch} {B : Nat} {D : va_G} {s0 : State} {b0 : Nat} (G : hp_G l B D s0 b0) (o : Nat) (a1 : Int32) (a2 : Int32) (Si : hp_St) (Q : Int32 → hp_St → Prop) (hc0 : st_C Si o = 1) (h : wp_X1_got o a1 a2 Si Q) : hp_M l B D s0 yX1_got cX1_got 3 (some .int) 8 512 0 0 [hp_v B o, .int a1, .int a2] Si (hp_Qi B D s0 (fun r S' => hp_mono Si S' ∧ Q r S')) := by
  refine hp_start G (by decide +kernel) rfl rfl (lv := [(0, hp_v B o), (1, .int a1), (2, .int a2)]) (by simp [lg_sl, hp_vc, hp_ci, hp_cj]) (by simp [lv_args, hp_vc, hp_ci, hp_cj]) ?_
  intro p e s m args below meth c E ls hl hR
  have hm : hp_mono Si Si := hp_mono.rf
  generalize hH : s.heap = H at hR ⊢
  generalize hLo : ([] : List Loc) = locs at hR ⊢
  have b19 : ∀ (S : hp_St) (H : Heap) (locs : List Loc) (ls : Array Slot), wb_X1_got_19 o a1 a2 S Q → lv_has ls 3 [] → hp_S B D s0 S H locs → hp_mono Si S → W p l e ({ frames := 8, cells := 0, slots := 0, locals := 512 } : Room) s m args below meth c H locs 0 0 (MQ below (hp_Qi B D s0 (fun r S' => hp_mono Si S' ∧ Q r S')) args s 0 0 (fun q => B < q)) (F0 m 19 ls []) := by
    intro S H locs ls h hl hR hm
    unfold wb_X1_got_19 at h
    refine hp_iconst E (-1 : Int32) (by decide) dX1_got_19 (rfl : 19 + 1 = 20) ?_
    exact hp_iret E hR ⟨hm, h⟩ (Nat.le_of_ble_eq_true rfl) (Nat.le_of_ble_eq_true rfl) dX1_got_20
  unfold wp_X1_got at h
  refine hp_iload_n E hl 1 rfl 1 rfl dX1_got_0 (rfl : 0 + 1 = 1) ?_
  refine hp_fi (hp_rS E hR hl (m_X1_isHolder G _ _ _ h) q771 q772 q73 q773 nf_X1_isHolder ⟨Nat.le_of_ble_eq_true rfl, Nat.le_of_ble_eq_true rfl⟩ (rest := []) rfl (Nat.le_of_ble_eq_true rfl) dX1_got_1 ⟨Nat.le_of_ble_eq_true rfl, Nat.le_of_ble_eq_true rfl⟩) hR (rfl : 1 + 3 = 4) (fun z1 Sx H locs hq hR => ?_)
  obtain ⟨hSx, h⟩ := hq
  rw [hSx] at hR
  refine hp_if_eq E dX1_got_4 (rfl : 4 + 3 = 7) (tgt := 19) (by decide) (fun hb => ?_) (fun hb => ?_)
  · have h := h.1 hb
    exact b19 _ _ _ _ h (lv_sub hl [] rfl) hR hm
  · have h := h.2 hb
    refine hp_iload_n E hl 2 rfl 2 rfl dX1_got_7 (rfl : 7 + 1 = 8) ?_
    refine hp_iconst E (0 : Int32) (by decide) dX1_got_8 (rfl : 8 + 1 = 9) ?_
    refine hp_aload_n E hl 0 rfl 0 rfl dX1_got_9 (rfl : 9 + 1 = 10) ?_
    refine hp_getI E hR in_X1 hc0 rfl 4 (Nat.le_of_ble_eq_true rfl) rfl q320 (fun _ h => h) dX1_got_10 (rfl : 10 + 3 = 13) ?_
    refine hp_fi (hp_rS E hR hl (m_X1_in G _ _ _ _ _ h) q394 q395 q73 q396 nf_X1_in ⟨Nat.le_of_ble_eq_true rfl, Nat.le_of_ble_eq_true rfl⟩ (rest := []) rfl (Nat.le_of_ble_eq_true rfl) dX1_got_13 ⟨Nat.le_of_ble_eq_true rfl, Nat.le_of_ble_eq_true rfl⟩) hR (rfl : 13 + 3 = 16) (fun z2 Sx H locs hq hR => ?_)
    obtain ⟨hSx, h⟩ := hq
    rw [hSx] at hR
    refine hp_if_ne E dX1_got_16 (rfl : 16 + 3 = 19) (tgt := 21) (by decide) (fun hb => ?_) (fun hb => ?_)
    · have h := h.1 hb
      exact b19 _ _ _ _ h (lv_sub hl [] rfl) hR hm
    · have h := h.2 hb
      refine hp_aload_n E hl 0 rfl 0 rfl dX1_got_21 (rfl : 21 + 1 = 22) ?_
      refine hp_fv (hp_rV E hR hl (m_X1_pay G _ _ _ hc0 h) hc0 (ci := 0) rfl rfl q996 q998 qs18 q73 q999 nf_X1_pay ⟨Nat.le_of_ble_eq_true rfl, Nat.le_of_ble_eq_true rfl⟩ (rest := []) rfl (Nat.le_of_ble_eq_true rfl) dX1_got_22 ⟨Nat.le_of_ble_eq_true rfl, Nat.le_of_ble_eq_true rfl⟩) hR (rfl : 22 + 3 = 25) (fun S3 H locs hq hR => ?_)
      obtain ⟨hm4, h⟩ := hq
      have h := h hm4
      have hm := hp_mono.tr hm hm4
      refine hp_aload_n E hl 0 rfl 0 rfl dX1_got_25 (rfl : 25 + 1 = 26) ?_
      refine hp_getR E hR in_X1 (hp_mono.c hm hc0) rfl 12 (Nat.le_of_ble_eq_true rfl) rfl q334 (fun _ h => h) dX1_got_26 (rfl : 26 + 3 = 29) ?_
      refine hp_iload_n E hl 1 rfl 1 rfl dX1_got_29 (rfl : 29 + 1 = 30) ?_
      obtain ⟨hc5, h⟩ := h
      obtain ⟨hi6, h⟩ := h
      refine hp_aald E hR (Or.inr (Or.inl hc5)) hi6 dX1_got_30 (rfl : 30 + 1 = 31) ?_
      refine hp_iload_n E hl 2 rfl 2 rfl dX1_got_31 (rfl : 31 + 1 = 32) ?_
      obtain ⟨hc7, h⟩ := h
      obtain ⟨hi8, h⟩ := h
      refine hp_iald E hR hc7 hi8 dX1_got_32 (rfl : 32 + 1 = 33) ?_
      exact hp_iret E hR ⟨hm, h⟩ (Nat.le_of_ble_eq_true rfl) (Nat.le_of_ble_eq_true rfl) dX1_got_33
def wb_X1_owedOf_56 (o : Nat) (a1 : Nat) (a2 : Int32) (v4 : Int32) (t0 : Int32) (t1 : Int32) (S : hp_St) (K5 : Int32 → Int32 → Prop) (Q : Int32 → Prop) : Prop := K5 (t0 + t1) (v4 + (1 : Int32))
def wb_X1_owedOf_55 (o : Nat) (a1 : Nat) (a2 : Int32) (v4 : Int32) (t0 : Int32) (S : hp_St) (K5 : Int32 → Int32 → Prop) (Q : Int32 → Prop) : Prop := wb_X1_owedOf_56 o a1 a2 v4 t0 (0 : Int32) S K5 Q
def wb_X1_owedOf_5 (o : Nat) (a1 : Nat) (a2 : Int32) (v3 : Int32) (v4 : Int32) (S : hp_St) (K5 : Int32 → Int32 → Prop) (Q : Int32 → Prop) : Prop := (((v4 < (80 : Int32)) → (st_C S a1 = 11 ∨ st_C S a1 = 12) ∧ (st_C S (st_R S a1 5) = 50) ∧ (vp_in v4 (st_L S (st_R S a1 5))) ∧ ((((st_I S (st_R S a1 5) v4.toNatClampNeg) = (-1 : Int32)) → wb_X1_owedOf_55 o a1 a2 v4 v3 S K5 Q) ∧ ((¬ ((st_I S (st_R S a1 5) v4.toNatClampNeg) = (-1 : Int32))) → (vp_in v4 (st_L S (st_R S a1 5))) ∧ ((((st_I S (st_R S a1 5) v4.toNatClampNeg) ≤ a2) → (st_C S (st_R S o 13) = 4) ∧ wp_X4_isDue (st_R S o 13) a1 v4 S (fun z506 => (((z506 = 0) → wb_X1_owedOf_56 o a1 a2 v4 v3 (st_I S a1 2) S K5 Q) ∧ ((¬ (z506 = 0)) → wb_X1_owedOf_55 o a1 a2 v4 v3 S K5 Q)))) ∧ ((¬ ((st_I S (st_R S a1 5) v4.toNatClampNeg) ≤ a2)) → wb_X1_owedOf_55 o a1 a2 v4 v3 S K5 Q))))) ∧ ((¬ (v4 < (80 : Int32))) → Q v3))
def wl_X1_owedOf_5 (o : Nat) (a1 : Nat) (a2 : Int32) (v3 : Int32) (v4 : Int32) (S : hp_St) (Q : Int32 → Prop) : Prop := ∃ (I : Int32 → Int32 → Prop) (μ : Int32 → Int32 → Nat), I v3 v4 ∧ ∀ (v3 : Int32) (v4 : Int32), I v3 v4 → wb_X1_owedOf_5 o a1 a2 v3 v4 S (fun v3' v4' => I v3' v4' ∧ μ v3' v4' < μ v3 v4) Q
def wp_X1_owedOf (o : Nat) (a1 : Nat) (a2 : Int32) (S : hp_St) (Q : Int32 → Prop) : Prop := wl_X1_owedOf_5 o a1 a2 (0 : Int32) (0 : Int32) S Q
theorem nf_X1_owedOf : hp_nf yX1_owedOf 2 = true := by decide +kernel
set_option maxHeartbeats 4000000 in
theorem m_X1_owedOf {l : Launch} {B : Nat} {D : va_G} {s0 : State} {b0 : Nat} (G : hp_G l B D s0 b0) (o : Nat) (a1 : Nat) (a2 : Int32) (Si : hp_St) (Q : Int32 → Prop) (hc0 : st_C Si o = 1) (h : wp_X1_owedOf o a1 a2 Si Q) : hp_M l B D s0 yX1_owedOf cX1_owedOf 5 (some .int) 4 256 0 0 [hp_v B o, hp_v B a1, .int a2] Si (hp_Qi B D s0 (fun r S' => S' = Si ∧ Q r)) := by
  refine hp_start G (by decide +kernel) rfl rfl (lv := [(0, hp_v B o), (1, hp_v B a1), (2, .int a2)]) (by simp [lg_sl, hp_vc, hp_ci, hp_cj]) (by simp [lv_args, hp_vc, hp_ci, hp_cj]) ?_
  intro p e s m args below meth c E ls hl hR
  generalize hH : s.heap = H at hR ⊢
  generalize hLo : ([] : List Loc) = locs at hR ⊢
  have b5 : ∀ (v3 : Int32) (v4 : Int32) (H : Heap) (locs : List Loc) (ls : Array Slot), wl_X1_owedOf_5 o a1 a2 v3 v4 Si Q → lv_has ls 5 [(0, hp_v B o), (1, hp_v B a1), (2, .int a2), (3, .int v3), (4, .int v4)] → hp_S B D s0 Si H locs → W p l e ({ frames := 4, cells := 0, slots := 0, locals := 256 } : Room) s m args below meth c H locs 0 0 (MQ below (hp_Qi B D s0 (fun r S' => S' = Si ∧ Q r)) args s 0 0 (fun q => B < q)) (F0 m 5 ls []) := by
    intro v3 v4 H locs ls h hl hR
    obtain ⟨I5, μ5, hI, hst⟩ := h
    have key5 : ∀ (N : Nat) (v3 : Int32) (v4 : Int32) (H : Heap) (locs : List Loc) (ls : Array Slot), μ5 v3 v4 < N → I5 v3 v4 → lv_has ls 5 [(0, hp_v B o), (1, hp_v B a1), (2, .int a2), (3, .int v3), (4, .int v4)] → hp_S B D s0 Si H locs → W p l e ({ frames := 4, cells := 0, slots := 0, locals := 256 } : Room) s m args below meth c H locs 0 0 (MQ below (hp_Qi B D s0 (fun r S' => S' = Si ∧ Q r)) args s 0 0 (fun q => B < q)) (F0 m 5 ls []) := by
      intro N
      induction N with
      | zero =>
        intro v3 v4 H locs ls hN
        exact absurd hN (Nat.not_lt_zero _)
      | succ N ih5 =>
        intro v3 v4 H locs ls hN hI hl hR
        have h := hst v3 v4 hI
        obtain ⟨K5, hKe5⟩ : ∃ K : Int32 → Int32 → Prop, K = (fun v3' v4' => I5 v3' v4' ∧ μ5 v3' v4' < μ5 v3 v4) := ⟨_, rfl⟩
        rw [← hKe5] at h
        have hK5 : ∀ (v3' : Int32) (v4' : Int32) (H : Heap) (locs : List Loc) (ls : Array Slot), K5 v3' v4' → lv_has ls 5 [(0, hp_v B o), (1, hp_v B a1), (2, .int a2), (3, .int (v3')), (4, .int (v4'))] → hp_S B D s0 Si H locs → W p l e ({ frames := 4, cells := 0, slots := 0, locals := 256 } : Room) s m args below meth c H locs 0 0 (MQ below (hp_Qi B D s0 (fun r S' => S' = Si ∧ Q r)) args s 0 0 (fun q => B < q)) (F0 m 5 ls []) := by
          intro v3' v4' H locs ls hI hl hR
          rw [hKe5] at hI
          exact ih5 v3' v4' H locs ls (Nat.lt_of_lt_of_le hI.2 (Nat.le_of_lt_succ hN)) hI.1 hl hR
        have b56 : ∀ (v4 : Int32) (t0 : Int32) (t1 : Int32) (H : Heap) (locs : List Loc) (ls : Array Slot), wb_X1_owedOf_56 o a1 a2 v4 t0 t1 Si K5 Q → lv_has ls 5 [(0, hp_v B o), (1, hp_v B a1), (2, .int a2), (4, .int v4)] → hp_S B D s0 Si H locs → W p l e ({ frames := 4, cells := 0, slots := 0, locals := 256 } : Room) s m args below meth c H locs 0 0 (MQ below (hp_Qi B D s0 (fun r S' => S' = Si ∧ Q r)) args s 0 0 (fun q => B < q)) (F0 m 56 ls [.int t1, .int t0]) := by
          intro v4 t0 t1 H locs ls h hl hR
          unfold wb_X1_owedOf_56 at h
          refine hp_iadd E dX1_owedOf_56 (rfl : 56 + 1 = 57) ?_
          refine hp_istore_n E hl 3 rfl (lv' := [(0, hp_v B o), (1, hp_v B a1), (2, .int a2), (4, .int v4)]) dX1_owedOf_57 (rfl : 57 + 1 = 58) (by decide) rfl (fun ls hl => ?_)
          refine hp_iinc E hl (v4 + (1 : Int32)) 4 (lv' := [(3, .int (t0 + t1)), (0, hp_v B o), (1, hp_v B a1), (2, .int a2)]) dX1_owedOf_58 (rfl : 58 + 3 = 61) rfl (by first | rfl | (congr 1)) (by decide) rfl (fun ls hl => ?_)
          refine hp_goto E (tgt := 5) dX1_owedOf_61 (by decide) ?_
          exact hK5 _ _ _ _ _ h (lv_sub hl [2, 3, 4, 1, 0] rfl) hR
        have b55 : ∀ (v4 : Int32) (t0 : Int32) (H : Heap) (locs : List Loc) (ls : Array Slot), wb_X1_owedOf_55 o a1 a2 v4 t0 Si K5 Q → lv_has ls 5 [(0, hp_v B o), (1, hp_v B a1), (2, .int a2), (4, .int v4)] → hp_S B D s0 Si H locs → W p l e ({ frames := 4, cells := 0, slots := 0, locals := 256 } : Room) s m args below meth c H locs 0 0 (MQ below (hp_Qi B D s0 (fun r S' => S' = Si ∧ Q r)) args s 0 0 (fun q => B < q)) (F0 m 55 ls [.int t0]) := by
          intro v4 t0 H locs ls h hl hR
          unfold wb_X1_owedOf_55 at h
          refine hp_iconst E (0 : Int32) (by decide) dX1_owedOf_55 (rfl : 55 + 1 = 56) ?_
          exact b56 _ _ _ _ _ _ h hl hR
        unfold wb_X1_owedOf_5 at h
        refine hp_iload E hl 4 rfl dX1_owedOf_5 (rfl : 5 + 2 = 7) ?_
        refine hp_bipush E (80 : Int32) (by decide) dX1_owedOf_7 (rfl : 7 + 2 = 9) ?_
        refine hp_icmp_ge E dX1_owedOf_9 (rfl : 9 + 3 = 12) (tgt := 64) (by decide) (fun hb => ?_) (fun hb => ?_)
        · have h := h.1 hb
          refine hp_iload_n E hl 3 rfl 3 rfl dX1_owedOf_12 (rfl : 12 + 1 = 13) ?_
          refine hp_aload_n E hl 1 rfl 1 rfl dX1_owedOf_13 (rfl : 13 + 1 = 14) ?_
          obtain ⟨hc501, h⟩ := h
          refine hp_or2 hc501 (fun hc kk => hp_getRN E hR in_X11 hc rfl 5 (Nat.le_of_ble_eq_true rfl) rfl q800 (fun _ h => h) dX1_owedOf_14 (rfl : 14 + 3 = 17) kk) (fun hc kk => hp_getRN E hR in_X12 hc rfl 5 (Nat.le_of_ble_eq_true rfl) rfl q800 (fun _ h => h) dX1_owedOf_14 (rfl : 14 + 3 = 17) kk) ?_
          refine hp_iload E hl 4 rfl dX1_owedOf_17 (rfl : 17 + 2 = 19) ?_
          obtain ⟨hc502, h⟩ := h
          obtain ⟨hi503, h⟩ := h
          refine hp_iald E hR hc502 hi503 dX1_owedOf_19 (rfl : 19 + 1 = 20) ?_
          refine hp_iconst E (-1 : Int32) (by decide) dX1_owedOf_20 (rfl : 20 + 1 = 21) ?_
          refine hp_icmp_eq E dX1_owedOf_21 (rfl : 21 + 3 = 24) (tgt := 55) (by decide) (fun hb => ?_) (fun hb => ?_)
          · have h := h.1 hb
            exact b55 _ _ _ _ _ h (lv_sub hl [0, 1, 2, 4] rfl) hR
          · have h := h.2 hb
            refine hp_aload_n E hl 1 rfl 1 rfl dX1_owedOf_24 (rfl : 24 + 1 = 25) ?_
            refine hp_or2 hc501 (fun hc kk => hp_getRN E hR in_X11 hc rfl 5 (Nat.le_of_ble_eq_true rfl) rfl q800 (fun _ h => h) dX1_owedOf_25 (rfl : 25 + 3 = 28) kk) (fun hc kk => hp_getRN E hR in_X12 hc rfl 5 (Nat.le_of_ble_eq_true rfl) rfl q800 (fun _ h => h) dX1_owedOf_25 (rfl : 25 + 3 = 28) kk) ?_
            refine hp_iload E hl 4 rfl dX1_owedOf_28 (rfl : 28 + 2 = 30) ?_
            obtain ⟨hi504, h⟩ := h
            refine hp_iald E hR hc502 hi504 dX1_owedOf_30 (rfl : 30 + 1 = 31) ?_
            refine hp_iload_n E hl 2 rfl 2 rfl dX1_owedOf_31 (rfl : 31 + 1 = 32) ?_
            refine hp_icmp_gt E dX1_owedOf_32 (rfl : 32 + 3 = 35) (tgt := 55) (by decide) (fun hb => ?_) (fun hb => ?_)
            · have h := h.1 hb
              refine hp_aload_n E hl 0 rfl 0 rfl dX1_owedOf_35 (rfl : 35 + 1 = 36) ?_
              refine hp_getR E hR in_X1 hc0 rfl 13 (Nat.le_of_ble_eq_true rfl) rfl q336 (fun _ h => h) dX1_owedOf_36 (rfl : 36 + 3 = 39) ?_
              refine hp_aload_n E hl 1 rfl 1 rfl dX1_owedOf_39 (rfl : 39 + 1 = 40) ?_
              refine hp_iload E hl 4 rfl dX1_owedOf_40 (rfl : 40 + 2 = 42) ?_
              obtain ⟨hc505, h⟩ := h
              refine hp_fi (hp_rV E hR hl (m_X4_isDue G _ _ _ _ _ hc505 h) hc505 (ci := 3) rfl rfl q1005 q1006 q1007 q79 q1008 nf_X4_isDue ⟨Nat.le_of_ble_eq_true rfl, Nat.le_of_ble_eq_true rfl⟩ (rest := [.int v3]) rfl (Nat.le_of_ble_eq_true rfl) dX1_owedOf_42 ⟨Nat.le_of_ble_eq_true rfl, Nat.le_of_ble_eq_true rfl⟩) hR (rfl : 42 + 3 = 45) (fun z506 Sx H locs hq hR => ?_)
              obtain ⟨hSx, h⟩ := hq
              rw [hSx] at hR
              refine hp_if_ne E dX1_owedOf_45 (rfl : 45 + 3 = 48) (tgt := 55) (by decide) (fun hb => ?_) (fun hb => ?_)
              · have h := h.1 hb
                refine hp_aload_n E hl 1 rfl 1 rfl dX1_owedOf_48 (rfl : 48 + 1 = 49) ?_
                refine hp_or2 hc501 (fun hc kk => hp_getI E hR in_X11 hc rfl 2 (Nat.le_of_ble_eq_true rfl) rfl q791 (fun _ h => h) dX1_owedOf_49 (rfl : 49 + 3 = 52) kk) (fun hc kk => hp_getI E hR in_X12 hc rfl 2 (Nat.le_of_ble_eq_true rfl) rfl q791 (fun _ h => h) dX1_owedOf_49 (rfl : 49 + 3 = 52) kk) ?_
                refine hp_goto E (tgt := 56) dX1_owedOf_52 (by decide) ?_
                exact b56 _ _ _ _ _ _ h (lv_sub hl [0, 1, 2, 4] rfl) hR
              · have h := h.2 hb
                exact b55 _ _ _ _ _ h (lv_sub hl [0, 1, 2, 4] rfl) hR
            · have h := h.2 hb
              exact b55 _ _ _ _ _ h (lv_sub hl [0, 1, 2, 4] rfl) hR
        · have h := h.2 hb
          refine hp_iload_n E hl 3 rfl 3 rfl dX1_owedOf_64 (rfl : 64 + 1 = 65) ?_
          exact hp_iret E hR ⟨rfl, h⟩ (Nat.le_of_ble_eq_true rfl) (Nat.le_of_ble_eq_true rfl) dX1_owedOf_65
    exact key5 (μ5 v3 v4 + 1) v3 v4 H locs ls (Nat.lt_succ_self _) hI hl hR
  unfold wp_X1_owedOf at h
  refine hp_iconst E (0 : Int32) (by decide) dX1_owedOf_0 (rfl : 0 + 1 = 1) ?_
  refine hp_istore_n E hl 3 rfl (lv' := [(0, hp_v B o), (1, hp_v B a1), (2, .int a2)]) dX1_owedOf_1 (rfl : 1 + 1 = 2) (by decide) rfl (fun ls hl => ?_)
  refine hp_iconst E (0 : Int32) (by decide) dX1_owedOf_2 (rfl : 2 + 1 = 3) ?_
  refine hp_istore E hl 4 (lv' := [(3, .int (0 : Int32)), (0, hp_v B o), (1, hp_v B a1), (2, .int a2)]) dX1_owedOf_3 (rfl : 3 + 2 = 5) (by decide) rfl (fun ls hl => ?_)
  exact b5 _ _ _ _ _ h (lv_sub hl [2, 3, 4, 1, 0] rfl) hR
def wb_X1_owed_20 (o : Nat) (a1 : Int32) (a2 : Int32) (S : hp_St) (Q : Int32 → hp_St → Prop) : Prop := Q (-1 : Int32) S
def wp_X1_owed (o : Nat) (a1 : Int32) (a2 : Int32) (S : hp_St) (Q : Int32 → hp_St → Prop) : Prop := wp_X1_aRent o a1 S (fun z1 => (((z1 = 0) → wb_X1_owed_20 o a1 a2 S Q) ∧ ((¬ (z1 = 0)) → wp_X1_in a2 (0 : Int32) (st_I S o 4) S (fun z2 => (((z2 = 0) → wb_X1_owed_20 o a1 a2 S Q) ∧ ((¬ (z2 = 0)) → wp_X1_pay o S (fun S3 => hp_mono S S3 → (st_C S3 (st_R S3 o 13) = 4) ∧ wp_X4_know (st_R S3 o 13) a2 S3 (fun z6 S7 => hp_mono S3 S7 → wp_X1_aRent o a1 S7 (fun z9 => wp_X1_owedOf o z9 a2 S7 (fun z10 => Q z10 S7))))))))))
theorem nf_X1_owed : hp_nf yX1_owed 2 = true := by decide +kernel
set_option maxHeartbeats 4000000 in
theorem m_X1_owed {l : Launch} {B : Nat} {D : va_G} {s0 : State} {b0 : Nat} (G : hp_G l B D s0 b0) (o : Nat) (a1 : Int32) (a2 : Int32) (Si : hp_St) (Q : Int32 → hp_St → Prop) (hc0 : st_C Si o = 1) (h : wp_X1_owed o a1 a2 Si Q) : hp_M l B D s0 yX1_owed cX1_owed 3 (some .int) 8 512 0 0 [hp_v B o, .int a1, .int a2] Si (hp_Qi B D s0 (fun r S' => hp_mono Si S' ∧ Q r S')) := by
  refine hp_start G (by decide +kernel) rfl rfl (lv := [(0, hp_v B o), (1, .int a1), (2, .int a2)]) (by simp [lg_sl, hp_vc, hp_ci, hp_cj]) (by simp [lv_args, hp_vc, hp_ci, hp_cj]) ?_
  intro p e s m args below meth c E ls hl hR
  have hm : hp_mono Si Si := hp_mono.rf
  generalize hH : s.heap = H at hR ⊢
  generalize hLo : ([] : List Loc) = locs at hR ⊢
  have b20 : ∀ (S : hp_St) (H : Heap) (locs : List Loc) (ls : Array Slot), wb_X1_owed_20 o a1 a2 S Q → lv_has ls 3 [] → hp_S B D s0 S H locs → hp_mono Si S → W p l e ({ frames := 8, cells := 0, slots := 0, locals := 512 } : Room) s m args below meth c H locs 0 0 (MQ below (hp_Qi B D s0 (fun r S' => hp_mono Si S' ∧ Q r S')) args s 0 0 (fun q => B < q)) (F0 m 20 ls []) := by
    intro S H locs ls h hl hR hm
    unfold wb_X1_owed_20 at h
    refine hp_iconst E (-1 : Int32) (by decide) dX1_owed_20 (rfl : 20 + 1 = 21) ?_
    exact hp_iret E hR ⟨hm, h⟩ (Nat.le_of_ble_eq_true rfl) (Nat.le_of_ble_eq_true rfl) dX1_owed_21
  unfold wp_X1_owed at h
  refine hp_aload_n E hl 0 rfl 0 rfl dX1_owed_0 (rfl : 0 + 1 = 1) ?_
  refine hp_iload_n E hl 1 rfl 1 rfl dX1_owed_1 (rfl : 1 + 1 = 2) ?_
  refine hp_fa (hp_rV E hR hl (m_X1_aRent G _ _ _ _ hc0 h) hc0 (ci := 0) rfl rfl q839 q841 qs17 q73 q842 nf_X1_aRent ⟨Nat.le_of_ble_eq_true rfl, Nat.le_of_ble_eq_true rfl⟩ (rest := []) rfl (Nat.le_of_ble_eq_true rfl) dX1_owed_2 ⟨Nat.le_of_ble_eq_true rfl, Nat.le_of_ble_eq_true rfl⟩) hR (rfl : 2 + 3 = 5) (fun z1 Sx H locs hq hR => ?_)
  obtain ⟨hSx, h⟩ := hq
  rw [hSx] at hR
  refine hp_ifnull E dX1_owed_5 (rfl : 5 + 3 = 8) (tgt := 20) (by decide) (fun hb => ?_) (fun hb => ?_)
  · have h := h.1 hb
    exact b20 _ _ _ _ h (lv_sub hl [] rfl) hR hm
  · have h := h.2 hb
    refine hp_iload_n E hl 2 rfl 2 rfl dX1_owed_8 (rfl : 8 + 1 = 9) ?_
    refine hp_iconst E (0 : Int32) (by decide) dX1_owed_9 (rfl : 9 + 1 = 10) ?_
    refine hp_aload_n E hl 0 rfl 0 rfl dX1_owed_10 (rfl : 10 + 1 = 11) ?_
    refine hp_getI E hR in_X1 hc0 rfl 4 (Nat.le_of_ble_eq_true rfl) rfl q320 (fun _ h => h) dX1_owed_11 (rfl : 11 + 3 = 14) ?_
    refine hp_fi (hp_rS E hR hl (m_X1_in G _ _ _ _ _ h) q394 q395 q73 q396 nf_X1_in ⟨Nat.le_of_ble_eq_true rfl, Nat.le_of_ble_eq_true rfl⟩ (rest := []) rfl (Nat.le_of_ble_eq_true rfl) dX1_owed_14 ⟨Nat.le_of_ble_eq_true rfl, Nat.le_of_ble_eq_true rfl⟩) hR (rfl : 14 + 3 = 17) (fun z2 Sx H locs hq hR => ?_)
    obtain ⟨hSx, h⟩ := hq
    rw [hSx] at hR
    refine hp_if_ne E dX1_owed_17 (rfl : 17 + 3 = 20) (tgt := 22) (by decide) (fun hb => ?_) (fun hb => ?_)
    · have h := h.1 hb
      exact b20 _ _ _ _ h (lv_sub hl [] rfl) hR hm
    · have h := h.2 hb
      refine hp_aload_n E hl 0 rfl 0 rfl dX1_owed_22 (rfl : 22 + 1 = 23) ?_
      refine hp_fv (hp_rV E hR hl (m_X1_pay G _ _ _ hc0 h) hc0 (ci := 0) rfl rfl q996 q998 qs18 q73 q999 nf_X1_pay ⟨Nat.le_of_ble_eq_true rfl, Nat.le_of_ble_eq_true rfl⟩ (rest := []) rfl (Nat.le_of_ble_eq_true rfl) dX1_owed_23 ⟨Nat.le_of_ble_eq_true rfl, Nat.le_of_ble_eq_true rfl⟩) hR (rfl : 23 + 3 = 26) (fun S3 H locs hq hR => ?_)
      obtain ⟨hm4, h⟩ := hq
      have h := h hm4
      have hm := hp_mono.tr hm hm4
      refine hp_aload_n E hl 0 rfl 0 rfl dX1_owed_26 (rfl : 26 + 1 = 27) ?_
      refine hp_getR E hR in_X1 (hp_mono.c hm hc0) rfl 13 (Nat.le_of_ble_eq_true rfl) rfl q336 (fun _ h => h) dX1_owed_27 (rfl : 27 + 3 = 30) ?_
      refine hp_iload_n E hl 2 rfl 2 rfl dX1_owed_30 (rfl : 30 + 1 = 31) ?_
      obtain ⟨hc5, h⟩ := h
      refine hp_fa (hp_rV E hR hl (m_X4_know G _ _ _ _ hc5 h) hc5 (ci := 3) rfl rfl q946 q947 q948 q79 q949 nf_X4_know ⟨Nat.le_of_ble_eq_true rfl, Nat.le_of_ble_eq_true rfl⟩ (rest := []) rfl (Nat.le_of_ble_eq_true rfl) dX1_owed_31 ⟨Nat.le_of_ble_eq_true rfl, Nat.le_of_ble_eq_true rfl⟩) hR (rfl : 31 + 3 = 34) (fun z6 S7 H locs hq hR => ?_)
      obtain ⟨hm8, h⟩ := hq
      have h := h hm8
      have hm := hp_mono.tr hm hm8
      refine hp_pop E hp_vc dX1_owed_34 (rfl : 34 + 1 = 35) ?_
      refine hp_aload_n E hl 0 rfl 0 rfl dX1_owed_35 (rfl : 35 + 1 = 36) ?_
      refine hp_aload_n E hl 0 rfl 0 rfl dX1_owed_36 (rfl : 36 + 1 = 37) ?_
      refine hp_iload_n E hl 1 rfl 1 rfl dX1_owed_37 (rfl : 37 + 1 = 38) ?_
      refine hp_fa (hp_rV E hR hl (m_X1_aRent G _ _ _ _ (hp_mono.c hm hc0) h) (hp_mono.c hm hc0) (ci := 0) rfl rfl q839 q841 qs17 q73 q842 nf_X1_aRent ⟨Nat.le_of_ble_eq_true rfl, Nat.le_of_ble_eq_true rfl⟩ (rest := [hp_v B o]) rfl (Nat.le_of_ble_eq_true rfl) dX1_owed_38 ⟨Nat.le_of_ble_eq_true rfl, Nat.le_of_ble_eq_true rfl⟩) hR (rfl : 38 + 3 = 41) (fun z9 Sx H locs hq hR => ?_)
      obtain ⟨hSx, h⟩ := hq
      rw [hSx] at hR
      refine hp_iload_n E hl 2 rfl 2 rfl dX1_owed_41 (rfl : 41 + 1 = 42) ?_
      refine hp_fi (hp_rV E hR hl (m_X1_owedOf G _ _ _ _ _ (hp_mono.c hm hc0) h) (hp_mono.c hm hc0) (ci := 0) rfl rfl q1041 q1043 qs22 q73 q1044 nf_X1_owedOf ⟨Nat.le_of_ble_eq_true rfl, Nat.le_of_ble_eq_true rfl⟩ (rest := []) rfl (Nat.le_of_ble_eq_true rfl) dX1_owed_42 ⟨Nat.le_of_ble_eq_true rfl, Nat.le_of_ble_eq_true rfl⟩) hR (rfl : 42 + 3 = 45) (fun z10 Sx H locs hq hR => ?_)
      obtain ⟨hSx, h⟩ := hq
      rw [hSx] at hR
      exact hp_iret E hR ⟨hm, h⟩ (Nat.le_of_ble_eq_true rfl) (Nat.le_of_ble_eq_true rfl) dX1_owed_45
def wb_X1_state_21 (o : Nat) (a1 : Int32) (a2 : Int32) (S : hp_St) (Q : Int32 → hp_St → Prop) : Prop := Q (-1 : Int32) S
def wb_X1_state_182 (o : Nat) (a1 : Int32) (a2 : Int32) (v3 : Int32) (S : hp_St) (Q : Int32 → hp_St → Prop) : Prop := Q v3 S
def wb_X1_state_152 (o : Nat) (a1 : Int32) (a2 : Int32) (v3 : Int32) (v4 : Int32) (S : hp_St) (K152 : Int32 → Int32 → Prop) (Q : Int32 → hp_St → Prop) : Prop := (((v4 < (8 : Int32)) → (((a2 = (1 : Int32)) → (st_C S (st_R S o 12) = 55) ∧ (vp_in v4 (st_L S (st_R S o 12))) ∧ (st_C S (st_R S (st_R S o 12) v4.toNatClampNeg) = 50) ∧ (vp_in a1 (st_L S (st_R S (st_R S o 12) v4.toNatClampNeg))) ∧ K152 (v3 + (st_I S (st_R S (st_R S o 12) v4.toNatClampNeg) a1.toNatClampNeg)) (v4 + (1 : Int32))) ∧ ((¬ (a2 = (1 : Int32))) → wb_X1_state_182 o a1 a2 v3 S Q))) ∧ ((¬ (v4 < (8 : Int32))) → wb_X1_state_182 o a1 a2 v3 S Q))
def wl_X1_state_152 (o : Nat) (a1 : Int32) (a2 : Int32) (v3 : Int32) (v4 : Int32) (S : hp_St) (Q : Int32 → hp_St → Prop) : Prop := ∃ (I : Int32 → Int32 → Prop) (μ : Int32 → Int32 → Nat), I v3 v4 ∧ ∀ (v3 : Int32) (v4 : Int32), I v3 v4 → wb_X1_state_152 o a1 a2 v3 v4 S (fun v3' v4' => I v3' v4' ∧ μ v3' v4' < μ v3 v4) Q
def wb_X1_state_141 (o : Nat) (a1 : Int32) (a2 : Int32) (v4 : Int32) (t0 : Int32) (t1 : Int32) (S : hp_St) (K41 : Int32 → Int32 → Prop) (Q : Int32 → hp_St → Prop) : Prop := K41 (t0 + t1) (v4 + (1 : Int32))
def wb_X1_state_41 (o : Nat) (a1 : Int32) (a2 : Int32) (v3 : Int32) (v4 : Int32) (S : hp_St) (K41 : Int32 → Int32 → Prop) (Q : Int32 → hp_St → Prop) : Prop := (st_C S (st_R S o 9) = 17) ∧ wp_J2_size (st_R S o 9) S (fun z4102 => (((v4 < z4102) → (((a2 = 0) → wp_J2_get (st_R S o 9) v4 S (fun z4103 => (st_C S z4103 = 11 ∨ st_C S z4103 = 12) ∧ ((((st_I S z4103 1) ≤ a1) → wp_J2_get (st_R S o 9) v4 S (fun z4105 => (st_C S z4105 = 11 ∨ st_C S z4105 = 12) ∧ wp_J2_get (st_R S o 9) v4 S (fun z4107 => (st_C S z4107 = 11 ∨ st_C S z4107 = 12) ∧ wb_X1_state_141 o a1 a2 v4 v3 ((st_I S z4105 2) * (st_I S z4107 3)) S K41 Q))) ∧ ((¬ ((st_I S z4103 1) ≤ a1)) → wb_X1_state_141 o a1 a2 v4 v3 (0 : Int32) S K41 Q)))) ∧ ((¬ (a2 = 0)) → (((a2 = (2 : Int32)) → wp_J2_get (st_R S o 9) v4 S (fun z4109 => (st_C S z4109 = 11 ∨ st_C S z4109 = 12) ∧ wp_X1_owedOf o z4109 a1 S (fun z4111 => wb_X1_state_141 o a1 a2 v4 v3 z4111 S K41 Q))) ∧ ((¬ (a2 = (2 : Int32))) → wb_X1_state_141 o a1 a2 v4 v3 (0 : Int32) S K41 Q))))) ∧ ((¬ (v4 < z4102)) → wl_X1_state_152 o a1 a2 v3 (0 : Int32) S Q)))
def wl_X1_state_41 (o : Nat) (a1 : Int32) (a2 : Int32) (v3 : Int32) (v4 : Int32) (S : hp_St) (Q : Int32 → hp_St → Prop) : Prop := ∃ (I : Int32 → Int32 → Prop) (μ : Int32 → Int32 → Nat), I v3 v4 ∧ ∀ (v3 : Int32) (v4 : Int32), I v3 v4 → wb_X1_state_41 o a1 a2 v3 v4 S (fun v3' v4' => I v3' v4' ∧ μ v3' v4' < μ v3 v4) Q
def wp_X1_state (o : Nat) (a1 : Int32) (a2 : Int32) (S : hp_St) (Q : Int32 → hp_St → Prop) : Prop := wp_X1_in a1 (0 : Int32) (st_I S o 4) S (fun z1 => (((z1 = 0) → wb_X1_state_21 o a1 a2 S Q) ∧ ((¬ (z1 = 0)) → wp_X1_in a2 (0 : Int32) (2 : Int32) S (fun z2 => (((z2 = 0) → wb_X1_state_21 o a1 a2 S Q) ∧ ((¬ (z2 = 0)) → wp_X1_pay o S (fun S3 => hp_mono S S3 → (st_C S3 (st_R S3 o 13) = 4) ∧ wp_X4_know (st_R S3 o 13) a1 S3 (fun z6 S7 => hp_mono S3 S7 → wl_X1_state_41 o a1 a2 (0 : Int32) (0 : Int32) S7 Q))))))))
theorem nf_X1_state : hp_nf yX1_state 2 = true := by decide +kernel
set_option maxHeartbeats 4000000 in
theorem m_X1_state {l : Launch} {B : Nat} {D : va_G} {s0 : State} {b0 : Nat} (G : hp_G l B D s0 b0) (o : Nat) (a1 : Int32) (a2 : Int32) (Si : hp_St) (Q : Int32 → hp_St → Prop) (hc0 : st_C Si o = 1) (h : wp_X1_state o a1 a2 Si Q) : hp_M l B D s0 yX1_state cX1_state 5 (some .int) 8 512 0 0 [hp_v B o, .int a1, .int a2] Si (hp_Qi B D s0 (fun r S' => hp_mono Si S' ∧ Q r S')) := by
  refine hp_start G (by decide +kernel) rfl rfl (lv := [(0, hp_v B o), (1, .int a1), (2, .int a2)]) (by simp [lg_sl, hp_vc, hp_ci, hp_cj]) (by simp [lv_args, hp_vc, hp_ci, hp_cj]) ?_
  intro p e s m args below meth c E ls hl hR
  have hm : hp_mono Si Si := hp_mono.rf
  generalize hH : s.heap = H at hR ⊢
  generalize hLo : ([] : List Loc) = locs at hR ⊢
  have b21 : ∀ (S : hp_St) (H : Heap) (locs : List Loc) (ls : Array Slot), wb_X1_state_21 o a1 a2 S Q → lv_has ls 5 [] → hp_S B D s0 S H locs → hp_mono Si S → W p l e ({ frames := 8, cells := 0, slots := 0, locals := 512 } : Room) s m args below meth c H locs 0 0 (MQ below (hp_Qi B D s0 (fun r S' => hp_mono Si S' ∧ Q r S')) args s 0 0 (fun q => B < q)) (F0 m 21 ls []) := by
    intro S H locs ls h hl hR hm
    unfold wb_X1_state_21 at h
    refine hp_iconst E (-1 : Int32) (by decide) dX1_state_21 (rfl : 21 + 1 = 22) ?_
    exact hp_iret E hR ⟨hm, h⟩ (Nat.le_of_ble_eq_true rfl) (Nat.le_of_ble_eq_true rfl) dX1_state_22
  have b182 : ∀ (v3 : Int32) (S : hp_St) (H : Heap) (locs : List Loc) (ls : Array Slot), wb_X1_state_182 o a1 a2 v3 S Q → lv_has ls 5 [(3, .int v3)] → hp_S B D s0 S H locs → hp_mono Si S → W p l e ({ frames := 8, cells := 0, slots := 0, locals := 512 } : Room) s m args below meth c H locs 0 0 (MQ below (hp_Qi B D s0 (fun r S' => hp_mono Si S' ∧ Q r S')) args s 0 0 (fun q => B < q)) (F0 m 182 ls []) := by
    intro v3 S H locs ls h hl hR hm
    unfold wb_X1_state_182 at h
    refine hp_iload_n E hl 3 rfl 0 rfl dX1_state_182 (rfl : 182 + 1 = 183) ?_
    exact hp_iret E hR ⟨hm, h⟩ (Nat.le_of_ble_eq_true rfl) (Nat.le_of_ble_eq_true rfl) dX1_state_183
  have b152 : ∀ (v3 : Int32) (v4 : Int32) (S : hp_St) (H : Heap) (locs : List Loc) (ls : Array Slot), wl_X1_state_152 o a1 a2 v3 v4 S Q → lv_has ls 5 [(0, hp_v B o), (1, .int a1), (2, .int a2), (3, .int v3), (4, .int v4)] → hp_S B D s0 S H locs → hp_mono Si S → W p l e ({ frames := 8, cells := 0, slots := 0, locals := 512 } : Room) s m args below meth c H locs 0 0 (MQ below (hp_Qi B D s0 (fun r S' => hp_mono Si S' ∧ Q r S')) args s 0 0 (fun q => B < q)) (F0 m 152 ls []) := by
    intro v3 v4 S H locs ls h hl hR hm
    obtain ⟨I152, μ152, hI, hst⟩ := h
    have key152 : ∀ (N : Nat) (v3 : Int32) (v4 : Int32) (H : Heap) (locs : List Loc) (ls : Array Slot), μ152 v3 v4 < N → I152 v3 v4 → lv_has ls 5 [(0, hp_v B o), (1, .int a1), (2, .int a2), (3, .int v3), (4, .int v4)] → hp_S B D s0 S H locs → W p l e ({ frames := 8, cells := 0, slots := 0, locals := 512 } : Room) s m args below meth c H locs 0 0 (MQ below (hp_Qi B D s0 (fun r S' => hp_mono Si S' ∧ Q r S')) args s 0 0 (fun q => B < q)) (F0 m 152 ls []) := by
      intro N
      induction N with
      | zero =>
        intro v3 v4 H locs ls hN
        exact absurd hN (Nat.not_lt_zero _)
      | succ N ih152 =>
        intro v3 v4 H locs ls hN hI hl hR
        have h := hst v3 v4 hI
        obtain ⟨K152, hKe152⟩ : ∃ K : Int32 → Int32 → Prop, K = (fun v3' v4' => I152 v3' v4' ∧ μ152 v3' v4' < μ152 v3 v4) := ⟨_, rfl⟩
        rw [← hKe152] at h
        have hK152 : ∀ (v3' : Int32) (v4' : Int32) (H : Heap) (locs : List Loc) (ls : Array Slot), K152 v3' v4' → lv_has ls 5 [(0, hp_v B o), (1, .int a1), (2, .int a2), (3, .int (v3')), (4, .int (v4'))] → hp_S B D s0 S H locs → W p l e ({ frames := 8, cells := 0, slots := 0, locals := 512 } : Room) s m args below meth c H locs 0 0 (MQ below (hp_Qi B D s0 (fun r S' => hp_mono Si S' ∧ Q r S')) args s 0 0 (fun q => B < q)) (F0 m 152 ls []) := by
          intro v3' v4' H locs ls hI hl hR
          rw [hKe152] at hI
          exact ih152 v3' v4' H locs ls (Nat.lt_of_lt_of_le hI.2 (Nat.le_of_lt_succ hN)) hI.1 hl hR
        unfold wb_X1_state_152 at h
        refine hp_iload E hl 4 rfl dX1_state_152 (rfl : 152 + 2 = 154) ?_
        refine hp_bipush E (8 : Int32) (by decide) dX1_state_154 (rfl : 154 + 2 = 156) ?_
        refine hp_icmp_ge E dX1_state_156 (rfl : 156 + 3 = 159) (tgt := 182) (by decide) (fun hb => ?_) (fun hb => ?_)
        · have h := h.1 hb
          refine hp_iload_n E hl 2 rfl 2 rfl dX1_state_159 (rfl : 159 + 1 = 160) ?_
          refine hp_iconst E (1 : Int32) (by decide) dX1_state_160 (rfl : 160 + 1 = 161) ?_
          refine hp_icmp_ne E dX1_state_161 (rfl : 161 + 3 = 164) (tgt := 182) (by decide) (fun hb => ?_) (fun hb => ?_)
          · have h := h.1 hb
            refine hp_iload_n E hl 3 rfl 3 rfl dX1_state_164 (rfl : 164 + 1 = 165) ?_
            refine hp_aload_n E hl 0 rfl 0 rfl dX1_state_165 (rfl : 165 + 1 = 166) ?_
            refine hp_getR E hR in_X1 (hp_mono.c hm hc0) rfl 12 (Nat.le_of_ble_eq_true rfl) rfl q334 (fun _ h => h) dX1_state_166 (rfl : 166 + 3 = 169) ?_
            refine hp_iload E hl 4 rfl dX1_state_169 (rfl : 169 + 2 = 171) ?_
            obtain ⟨hc15201, h⟩ := h
            obtain ⟨hi15202, h⟩ := h
            refine hp_aald E hR (Or.inr (Or.inl hc15201)) hi15202 dX1_state_171 (rfl : 171 + 1 = 172) ?_
            refine hp_iload_n E hl 1 rfl 1 rfl dX1_state_172 (rfl : 172 + 1 = 173) ?_
            obtain ⟨hc15203, h⟩ := h
            obtain ⟨hi15204, h⟩ := h
            refine hp_iald E hR hc15203 hi15204 dX1_state_173 (rfl : 173 + 1 = 174) ?_
            refine hp_iadd E dX1_state_174 (rfl : 174 + 1 = 175) ?_
            refine hp_istore_n E hl 3 rfl (lv' := [(0, hp_v B o), (1, .int a1), (2, .int a2), (4, .int v4)]) dX1_state_175 (rfl : 175 + 1 = 176) (by decide) rfl (fun ls hl => ?_)
            refine hp_iinc E hl (v4 + (1 : Int32)) 4 (lv' := [(3, .int (v3 + (st_I S (st_R S (st_R S o 12) v4.toNatClampNeg) a1.toNatClampNeg))), (0, hp_v B o), (1, .int a1), (2, .int a2)]) dX1_state_176 (rfl : 176 + 3 = 179) rfl (by first | rfl | (congr 1)) (by decide) rfl (fun ls hl => ?_)
            refine hp_goto E (tgt := 152) dX1_state_179 (by decide) ?_
            exact hK152 _ _ _ _ _ h (lv_sub hl [2, 3, 4, 1, 0] rfl) hR
          · have h := h.2 hb
            exact b182 _ _ _ _ _ h (lv_sub hl [3] rfl) hR hm
        · have h := h.2 hb
          exact b182 _ _ _ _ _ h (lv_sub hl [3] rfl) hR hm
    exact key152 (μ152 v3 v4 + 1) v3 v4 H locs ls (Nat.lt_succ_self _) hI hl hR
  have b41 : ∀ (v3 : Int32) (v4 : Int32) (S : hp_St) (H : Heap) (locs : List Loc) (ls : Array Slot), wl_X1_state_41 o a1 a2 v3 v4 S Q → lv_has ls 5 [(0, hp_v B o), (1, .int a1), (2, .int a2), (3, .int v3), (4, .int v4)] → hp_S B D s0 S H locs → hp_mono Si S → W p l e ({ frames := 8, cells := 0, slots := 0, locals := 512 } : Room) s m args below meth c H locs 0 0 (MQ below (hp_Qi B D s0 (fun r S' => hp_mono Si S' ∧ Q r S')) args s 0 0 (fun q => B < q)) (F0 m 41 ls []) := by
    intro v3 v4 S H locs ls h hl hR hm
    obtain ⟨I41, μ41, hI, hst⟩ := h
    have key41 : ∀ (N : Nat) (v3 : Int32) (v4 : Int32) (H : Heap) (locs : List Loc) (ls : Array Slot), μ41 v3 v4 < N → I41 v3 v4 → lv_has ls 5 [(0, hp_v B o), (1, .int a1), (2, .int a2), (3, .int v3), (4, .int v4)] → hp_S B D s0 S H locs → W p l e ({ frames := 8, cells := 0, slots := 0, locals := 512 } : Room) s m args below meth c H locs 0 0 (MQ below (hp_Qi B D s0 (fun r S' => hp_mono Si S' ∧ Q r S')) args s 0 0 (fun q => B < q)) (F0 m 41 ls []) := by
      intro N
      induction N with
      | zero =>
        intro v3 v4 H locs ls hN
        exact absurd hN (Nat.not_lt_zero _)
      | succ N ih41 =>
        intro v3 v4 H locs ls hN hI hl hR
        have h := hst v3 v4 hI
        obtain ⟨K41, hKe41⟩ : ∃ K : Int32 → Int32 → Prop, K = (fun v3' v4' => I41 v3' v4' ∧ μ41 v3' v4' < μ41 v3 v4) := ⟨_, rfl⟩
        rw [← hKe41] at h
        have hK41 : ∀ (v3' : Int32) (v4' : Int32) (H : Heap) (locs : List Loc) (ls : Array Slot), K41 v3' v4' → lv_has ls 5 [(0, hp_v B o), (1, .int a1), (2, .int a2), (3, .int (v3')), (4, .int (v4'))] → hp_S B D s0 S H locs → W p l e ({ frames := 8, cells := 0, slots := 0, locals := 512 } : Room) s m args below meth c H locs 0 0 (MQ below (hp_Qi B D s0 (fun r S' => hp_mono Si S' ∧ Q r S')) args s 0 0 (fun q => B < q)) (F0 m 41 ls []) := by
          intro v3' v4' H locs ls hI hl hR
          rw [hKe41] at hI
          exact ih41 v3' v4' H locs ls (Nat.lt_of_lt_of_le hI.2 (Nat.le_of_lt_succ hN)) hI.1 hl hR
        have b141 : ∀ (v4 : Int32) (t0 : Int32) (t1 : Int32) (H : Heap) (locs : List Loc) (ls : Array Slot), wb_X1_state_141 o a1 a2 v4 t0 t1 S K41 Q → lv_has ls 5 [(0, hp_v B o), (1, .int a1), (2, .int a2), (4, .int v4)] → hp_S B D s0 S H locs → W p l e ({ frames := 8, cells := 0, slots := 0, locals := 512 } : Room) s m args below meth c H locs 0 0 (MQ below (hp_Qi B D s0 (fun r S' => hp_mono Si S' ∧ Q r S')) args s 0 0 (fun q => B < q)) (F0 m 141 ls [.int t1, .int t0]) := by
          intro v4 t0 t1 H locs ls h hl hR
          unfold wb_X1_state_141 at h
          refine hp_iadd E dX1_state_141 (rfl : 141 + 1 = 142) ?_
          refine hp_istore_n E hl 3 rfl (lv' := [(0, hp_v B o), (1, .int a1), (2, .int a2), (4, .int v4)]) dX1_state_142 (rfl : 142 + 1 = 143) (by decide) rfl (fun ls hl => ?_)
          refine hp_iinc E hl (v4 + (1 : Int32)) 4 (lv' := [(3, .int (t0 + t1)), (0, hp_v B o), (1, .int a1), (2, .int a2)]) dX1_state_143 (rfl : 143 + 3 = 146) rfl (by first | rfl | (congr 1)) (by decide) rfl (fun ls hl => ?_)
          refine hp_goto E (tgt := 41) dX1_state_146 (by decide) ?_
          exact hK41 _ _ _ _ _ h (lv_sub hl [2, 3, 4, 1, 0] rfl) hR
        unfold wb_X1_state_41 at h
        refine hp_iload E hl 4 rfl dX1_state_41 (rfl : 41 + 2 = 43) ?_
        refine hp_aload_n E hl 0 rfl 0 rfl dX1_state_43 (rfl : 43 + 1 = 44) ?_
        refine hp_getR E hR in_X1 (hp_mono.c hm hc0) rfl 9 (Nat.le_of_ble_eq_true rfl) rfl q329 (fun _ h => h) dX1_state_44 (rfl : 44 + 3 = 47) ?_
        obtain ⟨hc4101, h⟩ := h
        refine hp_fi (hp_rV E hR hl (m_J2_size G _ _ _ hc4101 h) hc4101 (ci := 16) rfl rfl q691 q545 q546 q78 q547 nf_J2_size ⟨Nat.le_of_ble_eq_true rfl, Nat.le_of_ble_eq_true rfl⟩ (rest := [.int v4]) rfl (Nat.le_of_ble_eq_true rfl) dX1_state_47 ⟨Nat.le_of_ble_eq_true rfl, Nat.le_of_ble_eq_true rfl⟩) hR (rfl : 47 + 3 = 50) (fun z4102 Sx H locs hq hR => ?_)
        obtain ⟨hSx, h⟩ := hq
        rw [hSx] at hR
        refine hp_icmp_ge E dX1_state_50 (rfl : 50 + 3 = 53) (tgt := 149) (by decide) (fun hb => ?_) (fun hb => ?_)
        · have h := h.1 hb
          refine hp_iload_n E hl 3 rfl 3 rfl dX1_state_53 (rfl : 53 + 1 = 54) ?_
          refine hp_iload_n E hl 2 rfl 2 rfl dX1_state_54 (rfl : 54 + 1 = 55) ?_
          refine hp_if_ne E dX1_state_55 (rfl : 55 + 3 = 58) (tgt := 115) (by decide) (fun hb => ?_) (fun hb => ?_)
          · have h := h.1 hb
            refine hp_aload_n E hl 0 rfl 0 rfl dX1_state_58 (rfl : 58 + 1 = 59) ?_
            refine hp_getR E hR in_X1 (hp_mono.c hm hc0) rfl 9 (Nat.le_of_ble_eq_true rfl) rfl q329 (fun _ h => h) dX1_state_59 (rfl : 59 + 3 = 62) ?_
            refine hp_iload E hl 4 rfl dX1_state_62 (rfl : 62 + 2 = 64) ?_
            refine hp_fa (hp_rV E hR hl (m_J2_get G _ _ _ _ hc4101 h) hc4101 (ci := 16) rfl rfl q727 q728 q729 q78 q730 nf_J2_get ⟨Nat.le_of_ble_eq_true rfl, Nat.le_of_ble_eq_true rfl⟩ (rest := [.int v3]) rfl (Nat.le_of_ble_eq_true rfl) dX1_state_64 ⟨Nat.le_of_ble_eq_true rfl, Nat.le_of_ble_eq_true rfl⟩) hR (rfl : 64 + 3 = 67) (fun z4103 Sx H locs hq hR => ?_)
            obtain ⟨hSx, h⟩ := hq
            rw [hSx] at hR
            obtain ⟨hc4104, h⟩ := h
            refine hp_or2 hc4104 (fun hc kk => hp_castS E hR hc (ci := 10) rfl q778 dX1_state_67 (rfl : 67 + 3 = 70) kk) (fun hc kk => hp_castY E hR hc (ci := 11) rfl q778 q1724 dX1_state_67 (rfl : 67 + 3 = 70) kk) ?_
            refine hp_or2 hc4104 (fun hc kk => hp_getI E hR in_X11 hc rfl 1 (Nat.le_of_ble_eq_true rfl) rfl q789 (fun _ h => h) dX1_state_70 (rfl : 70 + 3 = 73) kk) (fun hc kk => hp_getI E hR in_X12 hc rfl 1 (Nat.le_of_ble_eq_true rfl) rfl q789 (fun _ h => h) dX1_state_70 (rfl : 70 + 3 = 73) kk) ?_
            refine hp_iload_n E hl 1 rfl 1 rfl dX1_state_73 (rfl : 73 + 1 = 74) ?_
            refine hp_icmp_gt E dX1_state_74 (rfl : 74 + 3 = 77) (tgt := 111) (by decide) (fun hb => ?_) (fun hb => ?_)
            · have h := h.1 hb
              refine hp_aload_n E hl 0 rfl 0 rfl dX1_state_77 (rfl : 77 + 1 = 78) ?_
              refine hp_getR E hR in_X1 (hp_mono.c hm hc0) rfl 9 (Nat.le_of_ble_eq_true rfl) rfl q329 (fun _ h => h) dX1_state_78 (rfl : 78 + 3 = 81) ?_
              refine hp_iload E hl 4 rfl dX1_state_81 (rfl : 81 + 2 = 83) ?_
              refine hp_fa (hp_rV E hR hl (m_J2_get G _ _ _ _ hc4101 h) hc4101 (ci := 16) rfl rfl q727 q728 q729 q78 q730 nf_J2_get ⟨Nat.le_of_ble_eq_true rfl, Nat.le_of_ble_eq_true rfl⟩ (rest := [.int v3]) rfl (Nat.le_of_ble_eq_true rfl) dX1_state_83 ⟨Nat.le_of_ble_eq_true rfl, Nat.le_of_ble_eq_true rfl⟩) hR (rfl : 83 + 3 = 86) (fun z4105 Sx H locs hq hR => ?_)
              obtain ⟨hSx, h⟩ := hq
              rw [hSx] at hR
              obtain ⟨hc4106, h⟩ := h
              refine hp_or2 hc4106 (fun hc kk => hp_castS E hR hc (ci := 10) rfl q778 dX1_state_86 (rfl : 86 + 3 = 89) kk) (fun hc kk => hp_castY E hR hc (ci := 11) rfl q778 q1724 dX1_state_86 (rfl : 86 + 3 = 89) kk) ?_
              refine hp_or2 hc4106 (fun hc kk => hp_getI E hR in_X11 hc rfl 2 (Nat.le_of_ble_eq_true rfl) rfl q791 (fun _ h => h) dX1_state_89 (rfl : 89 + 3 = 92) kk) (fun hc kk => hp_getI E hR in_X12 hc rfl 2 (Nat.le_of_ble_eq_true rfl) rfl q791 (fun _ h => h) dX1_state_89 (rfl : 89 + 3 = 92) kk) ?_
              refine hp_aload_n E hl 0 rfl 0 rfl dX1_state_92 (rfl : 92 + 1 = 93) ?_
              refine hp_getR E hR in_X1 (hp_mono.c hm hc0) rfl 9 (Nat.le_of_ble_eq_true rfl) rfl q329 (fun _ h => h) dX1_state_93 (rfl : 93 + 3 = 96) ?_
              refine hp_iload E hl 4 rfl dX1_state_96 (rfl : 96 + 2 = 98) ?_
              refine hp_fa (hp_rV E hR hl (m_J2_get G _ _ _ _ hc4101 h) hc4101 (ci := 16) rfl rfl q727 q728 q729 q78 q730 nf_J2_get ⟨Nat.le_of_ble_eq_true rfl, Nat.le_of_ble_eq_true rfl⟩ (rest := [.int (st_I S z4105 2), .int v3]) rfl (Nat.le_of_ble_eq_true rfl) dX1_state_98 ⟨Nat.le_of_ble_eq_true rfl, Nat.le_of_ble_eq_true rfl⟩) hR (rfl : 98 + 3 = 101) (fun z4107 Sx H locs hq hR => ?_)
              obtain ⟨hSx, h⟩ := hq
              rw [hSx] at hR
              obtain ⟨hc4108, h⟩ := h
              refine hp_or2 hc4108 (fun hc kk => hp_castS E hR hc (ci := 10) rfl q778 dX1_state_101 (rfl : 101 + 3 = 104) kk) (fun hc kk => hp_castY E hR hc (ci := 11) rfl q778 q1724 dX1_state_101 (rfl : 101 + 3 = 104) kk) ?_
              refine hp_or2 hc4108 (fun hc kk => hp_getI E hR in_X11 hc rfl 3 (Nat.le_of_ble_eq_true rfl) rfl q793 (fun _ h => h) dX1_state_104 (rfl : 104 + 3 = 107) kk) (fun hc kk => hp_getI E hR in_X12 hc rfl 3 (Nat.le_of_ble_eq_true rfl) rfl q793 (fun _ h => h) dX1_state_104 (rfl : 104 + 3 = 107) kk) ?_
              refine hp_imul E dX1_state_107 (rfl : 107 + 1 = 108) ?_
              refine hp_goto E (tgt := 141) dX1_state_108 (by decide) ?_
              exact b141 _ _ _ _ _ _ h (lv_sub hl [0, 1, 2, 4] rfl) hR
            · have h := h.2 hb
              refine hp_iconst E (0 : Int32) (by decide) dX1_state_111 (rfl : 111 + 1 = 112) ?_
              refine hp_goto E (tgt := 141) dX1_state_112 (by decide) ?_
              exact b141 _ _ _ _ _ _ h (lv_sub hl [0, 1, 2, 4] rfl) hR
          · have h := h.2 hb
            refine hp_iload_n E hl 2 rfl 2 rfl dX1_state_115 (rfl : 115 + 1 = 116) ?_
            refine hp_iconst E (2 : Int32) (by decide) dX1_state_116 (rfl : 116 + 1 = 117) ?_
            refine hp_icmp_ne E dX1_state_117 (rfl : 117 + 3 = 120) (tgt := 140) (by decide) (fun hb => ?_) (fun hb => ?_)
            · have h := h.1 hb
              refine hp_aload_n E hl 0 rfl 0 rfl dX1_state_120 (rfl : 120 + 1 = 121) ?_
              refine hp_aload_n E hl 0 rfl 0 rfl dX1_state_121 (rfl : 121 + 1 = 122) ?_
              refine hp_getR E hR in_X1 (hp_mono.c hm hc0) rfl 9 (Nat.le_of_ble_eq_true rfl) rfl q329 (fun _ h => h) dX1_state_122 (rfl : 122 + 3 = 125) ?_
              refine hp_iload E hl 4 rfl dX1_state_125 (rfl : 125 + 2 = 127) ?_
              refine hp_fa (hp_rV E hR hl (m_J2_get G _ _ _ _ hc4101 h) hc4101 (ci := 16) rfl rfl q727 q728 q729 q78 q730 nf_J2_get ⟨Nat.le_of_ble_eq_true rfl, Nat.le_of_ble_eq_true rfl⟩ (rest := [hp_v B o, .int v3]) rfl (Nat.le_of_ble_eq_true rfl) dX1_state_127 ⟨Nat.le_of_ble_eq_true rfl, Nat.le_of_ble_eq_true rfl⟩) hR (rfl : 127 + 3 = 130) (fun z4109 Sx H locs hq hR => ?_)
              obtain ⟨hSx, h⟩ := hq
              rw [hSx] at hR
              obtain ⟨hc4110, h⟩ := h
              refine hp_or2 hc4110 (fun hc kk => hp_castS E hR hc (ci := 10) rfl q778 dX1_state_130 (rfl : 130 + 3 = 133) kk) (fun hc kk => hp_castY E hR hc (ci := 11) rfl q778 q1724 dX1_state_130 (rfl : 130 + 3 = 133) kk) ?_
              refine hp_iload_n E hl 1 rfl 1 rfl dX1_state_133 (rfl : 133 + 1 = 134) ?_
              refine hp_fi (hp_rV E hR hl (m_X1_owedOf G _ _ _ _ _ (hp_mono.c hm hc0) h) (hp_mono.c hm hc0) (ci := 0) rfl rfl q1041 q1043 qs22 q73 q1044 nf_X1_owedOf ⟨Nat.le_of_ble_eq_true rfl, Nat.le_of_ble_eq_true rfl⟩ (rest := [.int v3]) rfl (Nat.le_of_ble_eq_true rfl) dX1_state_134 ⟨Nat.le_of_ble_eq_true rfl, Nat.le_of_ble_eq_true rfl⟩) hR (rfl : 134 + 3 = 137) (fun z4111 Sx H locs hq hR => ?_)
              obtain ⟨hSx, h⟩ := hq
              rw [hSx] at hR
              refine hp_goto E (tgt := 141) dX1_state_137 (by decide) ?_
              exact b141 _ _ _ _ _ _ h (lv_sub hl [0, 1, 2, 4] rfl) hR
            · have h := h.2 hb
              refine hp_iconst E (0 : Int32) (by decide) dX1_state_140 (rfl : 140 + 1 = 141) ?_
              exact b141 _ _ _ _ _ _ h (lv_sub hl [0, 1, 2, 4] rfl) hR
        · have h := h.2 hb
          refine hp_iconst E (0 : Int32) (by decide) dX1_state_149 (rfl : 149 + 1 = 150) ?_
          refine hp_istore E hl 4 (lv' := [(0, hp_v B o), (1, .int a1), (2, .int a2), (3, .int v3)]) dX1_state_150 (rfl : 150 + 2 = 152) (by decide) rfl (fun ls hl => ?_)
          exact b152 _ _ _ _ _ _ h (lv_sub hl [1, 2, 3, 4, 0] rfl) hR hm
    exact key41 (μ41 v3 v4 + 1) v3 v4 H locs ls (Nat.lt_succ_self _) hI hl hR
  unfold wp_X1_state at h
  refine hp_iload_n E hl 1 rfl 1 rfl dX1_state_0 (rfl : 0 + 1 = 1) ?_
  refine hp_iconst E (0 : Int32) (by decide) dX1_state_1 (rfl : 1 + 1 = 2) ?_
  refine hp_aload_n E hl 0 rfl 0 rfl dX1_state_2 (rfl : 2 + 1 = 3) ?_
  refine hp_getI E hR in_X1 hc0 rfl 4 (Nat.le_of_ble_eq_true rfl) rfl q320 (fun _ h => h) dX1_state_3 (rfl : 3 + 3 = 6) ?_
  refine hp_fi (hp_rS E hR hl (m_X1_in G _ _ _ _ _ h) q394 q395 q73 q396 nf_X1_in ⟨Nat.le_of_ble_eq_true rfl, Nat.le_of_ble_eq_true rfl⟩ (rest := []) rfl (Nat.le_of_ble_eq_true rfl) dX1_state_6 ⟨Nat.le_of_ble_eq_true rfl, Nat.le_of_ble_eq_true rfl⟩) hR (rfl : 6 + 3 = 9) (fun z1 Sx H locs hq hR => ?_)
  obtain ⟨hSx, h⟩ := hq
  rw [hSx] at hR
  refine hp_if_eq E dX1_state_9 (rfl : 9 + 3 = 12) (tgt := 21) (by decide) (fun hb => ?_) (fun hb => ?_)
  · have h := h.1 hb
    exact b21 _ _ _ _ h (lv_sub hl [] rfl) hR hm
  · have h := h.2 hb
    refine hp_iload_n E hl 2 rfl 2 rfl dX1_state_12 (rfl : 12 + 1 = 13) ?_
    refine hp_iconst E (0 : Int32) (by decide) dX1_state_13 (rfl : 13 + 1 = 14) ?_
    refine hp_iconst E (2 : Int32) (by decide) dX1_state_14 (rfl : 14 + 1 = 15) ?_
    refine hp_fi (hp_rS E hR hl (m_X1_in G _ _ _ _ _ h) q394 q395 q73 q396 nf_X1_in ⟨Nat.le_of_ble_eq_true rfl, Nat.le_of_ble_eq_true rfl⟩ (rest := []) rfl (Nat.le_of_ble_eq_true rfl) dX1_state_15 ⟨Nat.le_of_ble_eq_true rfl, Nat.le_of_ble_eq_true rfl⟩) hR (rfl : 15 + 3 = 18) (fun z2 Sx H locs hq hR => ?_)
    obtain ⟨hSx, h⟩ := hq
    rw [hSx] at hR
    refine hp_if_ne E dX1_state_18 (rfl : 18 + 3 = 21) (tgt := 23) (by decide) (fun hb => ?_) (fun hb => ?_)
    · have h := h.1 hb
      exact b21 _ _ _ _ h (lv_sub hl [] rfl) hR hm
    · have h := h.2 hb
      refine hp_aload_n E hl 0 rfl 0 rfl dX1_state_23 (rfl : 23 + 1 = 24) ?_
      refine hp_fv (hp_rV E hR hl (m_X1_pay G _ _ _ hc0 h) hc0 (ci := 0) rfl rfl q996 q998 qs18 q73 q999 nf_X1_pay ⟨Nat.le_of_ble_eq_true rfl, Nat.le_of_ble_eq_true rfl⟩ (rest := []) rfl (Nat.le_of_ble_eq_true rfl) dX1_state_24 ⟨Nat.le_of_ble_eq_true rfl, Nat.le_of_ble_eq_true rfl⟩) hR (rfl : 24 + 3 = 27) (fun S3 H locs hq hR => ?_)
      obtain ⟨hm4, h⟩ := hq
      have h := h hm4
      have hm := hp_mono.tr hm hm4
      refine hp_aload_n E hl 0 rfl 0 rfl dX1_state_27 (rfl : 27 + 1 = 28) ?_
      refine hp_getR E hR in_X1 (hp_mono.c hm hc0) rfl 13 (Nat.le_of_ble_eq_true rfl) rfl q336 (fun _ h => h) dX1_state_28 (rfl : 28 + 3 = 31) ?_
      refine hp_iload_n E hl 1 rfl 1 rfl dX1_state_31 (rfl : 31 + 1 = 32) ?_
      obtain ⟨hc5, h⟩ := h
      refine hp_fa (hp_rV E hR hl (m_X4_know G _ _ _ _ hc5 h) hc5 (ci := 3) rfl rfl q946 q947 q948 q79 q949 nf_X4_know ⟨Nat.le_of_ble_eq_true rfl, Nat.le_of_ble_eq_true rfl⟩ (rest := []) rfl (Nat.le_of_ble_eq_true rfl) dX1_state_32 ⟨Nat.le_of_ble_eq_true rfl, Nat.le_of_ble_eq_true rfl⟩) hR (rfl : 32 + 3 = 35) (fun z6 S7 H locs hq hR => ?_)
      obtain ⟨hm8, h⟩ := hq
      have h := h hm8
      have hm := hp_mono.tr hm hm8
      refine hp_pop E hp_vc dX1_state_35 (rfl : 35 + 1 = 36) ?_
      refine hp_iconst E (0 : Int32) (by decide) dX1_state_36 (rfl : 36 + 1 = 37) ?_
      refine hp_istore_n E hl 3 rfl (lv' := [(0, hp_v B o), (1, .int a1), (2, .int a2)]) dX1_state_37 (rfl : 37 + 1 = 38) (by decide) rfl (fun ls hl => ?_)
      refine hp_iconst E (0 : Int32) (by decide) dX1_state_38 (rfl : 38 + 1 = 39) ?_
      refine hp_istore E hl 4 (lv' := [(3, .int (0 : Int32)), (0, hp_v B o), (1, .int a1), (2, .int a2)]) dX1_state_39 (rfl : 39 + 2 = 41) (by decide) rfl (fun ls hl => ?_)
      exact b41 _ _ _ _ _ _ h (lv_sub hl [2, 3, 4, 1, 0] rfl) hR hm
def wb_X1_sold_30 (o : Nat) (a1 : Int32) (a2 : Int32) (a3 : Int32) (S : hp_St) (Q : Int32 → hp_St → Prop) : Prop := Q (0 : Int32) S
def wp_X1_sold (o : Nat) (a1 : Int32) (a2 : Int32) (a3 : Int32) (S : hp_St) (Q : Int32 → hp_St → Prop) : Prop := wp_X1_in a1 (0 : Int32) (3 : Int32) S (fun z1 => (((z1 = 0) → wb_X1_sold_30 o a1 a2 a3 S Q) ∧ ((¬ (z1 = 0)) → wp_X1_in a2 (0 : Int32) (9 : Int32) S (fun z2 => (((z2 = 0) → wb_X1_sold_30 o a1 a2 a3 S Q) ∧ ((¬ (z2 = 0)) → wp_X1_in a3 (0 : Int32) (1000 : Int32) S (fun z3 => (((z3 = 0) → wb_X1_sold_30 o a1 a2 a3 S Q) ∧ ((¬ (z3 = 0)) → (st_C S (st_R S o 11) = 55) ∧ (vp_in a1 (st_L S (st_R S o 11))) ∧ (st_C S (st_R S (st_R S o 11) a1.toNatClampNeg) = 50) ∧ (vp_in a2 (st_L S (st_R S (st_R S o 11) a1.toNatClampNeg))) ∧ (∀ S8, S8 = st_pI S (st_R S (st_R S o 11) a1.toNatClampNeg) a2.toNatClampNeg a3 → Q (1 : Int32) S8))))))))))
theorem nf_X1_sold : hp_nf yX1_sold 3 = true := by decide +kernel
set_option maxHeartbeats 4000000 in
theorem m_X1_sold {l : Launch} {B : Nat} {D : va_G} {s0 : State} {b0 : Nat} (G : hp_G l B D s0 b0) (o : Nat) (a1 : Int32) (a2 : Int32) (a3 : Int32) (Si : hp_St) (Q : Int32 → hp_St → Prop) (hc0 : st_C Si o = 1) (h : wp_X1_sold o a1 a2 a3 Si Q) : hp_M l B D s0 yX1_sold cX1_sold 4 (some .boolean) 3 192 0 0 [hp_v B o, .int a1, .int a2, .int a3] Si (hp_Qi B D s0 (fun r S' => hp_mono Si S' ∧ Q r S')) := by
  refine hp_start G (by decide +kernel) rfl rfl (lv := [(0, hp_v B o), (1, .int a1), (2, .int a2), (3, .int a3)]) (by simp [lg_sl, hp_vc, hp_ci, hp_cj]) (by simp [lv_args, hp_vc, hp_ci, hp_cj]) ?_
  intro p e s m args below meth c E ls hl hR
  have hm : hp_mono Si Si := hp_mono.rf
  generalize hH : s.heap = H at hR ⊢
  generalize hLo : ([] : List Loc) = locs at hR ⊢
  have b30 : ∀ (S : hp_St) (H : Heap) (locs : List Loc) (ls : Array Slot), wb_X1_sold_30 o a1 a2 a3 S Q → lv_has ls 4 [] → hp_S B D s0 S H locs → hp_mono Si S → W p l e ({ frames := 3, cells := 0, slots := 0, locals := 192 } : Room) s m args below meth c H locs 0 0 (MQ below (hp_Qi B D s0 (fun r S' => hp_mono Si S' ∧ Q r S')) args s 0 0 (fun q => B < q)) (F0 m 30 ls []) := by
    intro S H locs ls h hl hR hm
    unfold wb_X1_sold_30 at h
    refine hp_iconst E (0 : Int32) (by decide) dX1_sold_30 (rfl : 30 + 1 = 31) ?_
    exact hp_zret E hR (Or.inl rfl) ⟨hm, h⟩ (Nat.le_of_ble_eq_true rfl) (Nat.le_of_ble_eq_true rfl) dX1_sold_31
  unfold wp_X1_sold at h
  refine hp_iload_n E hl 1 rfl 1 rfl dX1_sold_0 (rfl : 0 + 1 = 1) ?_
  refine hp_iconst E (0 : Int32) (by decide) dX1_sold_1 (rfl : 1 + 1 = 2) ?_
  refine hp_iconst E (3 : Int32) (by decide) dX1_sold_2 (rfl : 2 + 1 = 3) ?_
  refine hp_fi (hp_rS E hR hl (m_X1_in G _ _ _ _ _ h) q394 q395 q73 q396 nf_X1_in ⟨Nat.le_of_ble_eq_true rfl, Nat.le_of_ble_eq_true rfl⟩ (rest := []) rfl (Nat.le_of_ble_eq_true rfl) dX1_sold_3 ⟨Nat.le_of_ble_eq_true rfl, Nat.le_of_ble_eq_true rfl⟩) hR (rfl : 3 + 3 = 6) (fun z1 Sx H locs hq hR => ?_)
  obtain ⟨hSx, h⟩ := hq
  rw [hSx] at hR
  refine hp_if_eq E dX1_sold_6 (rfl : 6 + 3 = 9) (tgt := 30) (by decide) (fun hb => ?_) (fun hb => ?_)
  · have h := h.1 hb
    exact b30 _ _ _ _ h (lv_sub hl [] rfl) hR hm
  · have h := h.2 hb
    refine hp_iload_n E hl 2 rfl 2 rfl dX1_sold_9 (rfl : 9 + 1 = 10) ?_
    refine hp_iconst E (0 : Int32) (by decide) dX1_sold_10 (rfl : 10 + 1 = 11) ?_
    refine hp_bipush E (9 : Int32) (by decide) dX1_sold_11 (rfl : 11 + 2 = 13) ?_
    refine hp_fi (hp_rS E hR hl (m_X1_in G _ _ _ _ _ h) q394 q395 q73 q396 nf_X1_in ⟨Nat.le_of_ble_eq_true rfl, Nat.le_of_ble_eq_true rfl⟩ (rest := []) rfl (Nat.le_of_ble_eq_true rfl) dX1_sold_13 ⟨Nat.le_of_ble_eq_true rfl, Nat.le_of_ble_eq_true rfl⟩) hR (rfl : 13 + 3 = 16) (fun z2 Sx H locs hq hR => ?_)
    obtain ⟨hSx, h⟩ := hq
    rw [hSx] at hR
    refine hp_if_eq E dX1_sold_16 (rfl : 16 + 3 = 19) (tgt := 30) (by decide) (fun hb => ?_) (fun hb => ?_)
    · have h := h.1 hb
      exact b30 _ _ _ _ h (lv_sub hl [] rfl) hR hm
    · have h := h.2 hb
      refine hp_iload_n E hl 3 rfl 3 rfl dX1_sold_19 (rfl : 19 + 1 = 20) ?_
      refine hp_iconst E (0 : Int32) (by decide) dX1_sold_20 (rfl : 20 + 1 = 21) ?_
      refine hp_sipush E (1000 : Int32) (by decide) dX1_sold_21 (rfl : 21 + 3 = 24) ?_
      refine hp_fi (hp_rS E hR hl (m_X1_in G _ _ _ _ _ h) q394 q395 q73 q396 nf_X1_in ⟨Nat.le_of_ble_eq_true rfl, Nat.le_of_ble_eq_true rfl⟩ (rest := []) rfl (Nat.le_of_ble_eq_true rfl) dX1_sold_24 ⟨Nat.le_of_ble_eq_true rfl, Nat.le_of_ble_eq_true rfl⟩) hR (rfl : 24 + 3 = 27) (fun z3 Sx H locs hq hR => ?_)
      obtain ⟨hSx, h⟩ := hq
      rw [hSx] at hR
      refine hp_if_ne E dX1_sold_27 (rfl : 27 + 3 = 30) (tgt := 32) (by decide) (fun hb => ?_) (fun hb => ?_)
      · have h := h.1 hb
        exact b30 _ _ _ _ h (lv_sub hl [] rfl) hR hm
      · have h := h.2 hb
        refine hp_aload_n E hl 0 rfl 0 rfl dX1_sold_32 (rfl : 32 + 1 = 33) ?_
        refine hp_getR E hR in_X1 hc0 rfl 11 (Nat.le_of_ble_eq_true rfl) rfl q333 (fun _ h => h) dX1_sold_33 (rfl : 33 + 3 = 36) ?_
        refine hp_iload_n E hl 1 rfl 1 rfl dX1_sold_36 (rfl : 36 + 1 = 37) ?_
        obtain ⟨hc4, h⟩ := h
        obtain ⟨hi5, h⟩ := h
        refine hp_aald E hR (Or.inr (Or.inl hc4)) hi5 dX1_sold_37 (rfl : 37 + 1 = 38) ?_
        refine hp_iload_n E hl 2 rfl 2 rfl dX1_sold_38 (rfl : 38 + 1 = 39) ?_
        refine hp_iload_n E hl 3 rfl 3 rfl dX1_sold_39 (rfl : 39 + 1 = 40) ?_
        obtain ⟨hc6, h⟩ := h
        obtain ⟨hi7, h⟩ := h
        refine hx_iast E hR hc6 hi7 dX1_sold_40 (rfl : 40 + 1 = 41) (fun S8 H locs e10 hm9 hR => ?_)
        have h := h S8 e10
        have hm := hp_mono.tr hm hm9
        refine hp_iconst E (1 : Int32) (by decide) dX1_sold_41 (rfl : 41 + 1 = 42) ?_
        exact hp_zret E hR (Or.inr rfl) ⟨hm, h⟩ (Nat.le_of_ble_eq_true rfl) (Nat.le_of_ble_eq_true rfl) dX1_sold_42
def wp_X1_group (a0 : Int32) (S : hp_St) (Q : Int32 → Prop) : Prop := Q (if (a0 / (10 : Int32)) < (9 : Int32) then (a0 / (10 : Int32)) else (9 : Int32))
theorem nf_X1_group : hp_nf yX1_group 1 = true := by decide +kernel
set_option maxHeartbeats 4000000 in
theorem m_X1_group {l : Launch} {B : Nat} {D : va_G} {s0 : State} {b0 : Nat} (G : hp_G l B D s0 b0) (a0 : Int32) (Si : hp_St) (Q : Int32 → Prop) (h : wp_X1_group a0 Si Q) : hp_M l B D s0 yX1_group cX1_group 1 (some .int) 2 128 0 0 [.int a0] Si (hp_Qi B D s0 (fun r S' => S' = Si ∧ Q r)) := by
  refine hp_start G (by decide +kernel) rfl rfl (lv := [(0, .int a0)]) (by simp [lg_sl, hp_vc, hp_ci, hp_cj]) (by simp [lv_args, hp_vc, hp_ci, hp_cj]) ?_
  intro p e s m args below meth c E ls hl hR
  unfold wp_X1_group at h
  refine hp_bipush E (9 : Int32) (by decide) dX1_group_0 (rfl : 0 + 2 = 2) ?_
  refine hp_iload_n E hl 0 rfl 0 rfl dX1_group_2 (rfl : 2 + 1 = 3) ?_
  refine hp_bipush E (10 : Int32) (by decide) dX1_group_3 (rfl : 3 + 2 = 5) ?_
  refine hp_idiv E (by decide) dX1_group_5 (rfl : 5 + 1 = 6) ?_
  refine hp_min E hl q1071 (Nat.le_of_ble_eq_true rfl) (Nat.le_of_ble_eq_true rfl) (Nat.le_of_ble_eq_true rfl) (Nat.le_of_ble_eq_true rfl) (Nat.le_of_ble_eq_true rfl) dX1_group_6 (rfl : 6 + 3 = 9) ?_
  exact hp_iret E hR ⟨rfl, h⟩ (Nat.le_of_ble_eq_true rfl) (Nat.le_of_ble_eq_true rfl) dX1_group_9
def wb_X5_count_2_99 (o : Nat) (a1 : Nat) (a2 : Int32) (a3 : Int32) (S : hp_St) (Q : hp_St → Prop) : Prop := Q S
def wb_X5_count_2_90 (o : Nat) (a1 : Nat) (a2 : Int32) (a3 : Int32) (v4 : Int32) (v5 : Int32) (S : hp_St) (K9 : Int32 → Int32 → hp_St → Prop) (Q : hp_St → Prop) : Prop := K9 (v4 + (1 : Int32)) (v5 + (2 : Int32)) S
def wb_X5_count_2_88 (o : Nat) (a1 : Nat) (a2 : Int32) (a3 : Int32) (v4 : Int32) (v5 : Int32) (t0 : Nat) (t1 : Int32) (t2 : Int32) (t3 : Int32) (S : hp_St) (K9 : Int32 → Int32 → hp_St → Prop) (Q : hp_St → Prop) : Prop := (st_C S t0 = 50) ∧ (vp_in t1 (st_L S t0)) ∧ (∀ S8803, S8803 = st_pI S t0 t1.toNatClampNeg (t2 + t3) → wb_X5_count_2_90 o a1 a2 a3 v4 v5 S8803 K9 Q)
def wb_X5_count_2_83 (o : Nat) (a1 : Nat) (a2 : Int32) (a3 : Int32) (v4 : Int32) (v5 : Int32) (t0 : Nat) (t1 : Int32) (t2 : Int32) (S : hp_St) (K9 : Int32 → Int32 → hp_St → Prop) (Q : hp_St → Prop) : Prop := wb_X5_count_2_88 o a1 a2 a3 v4 v5 t0 t1 t2 (1 : Int32) S K9 Q
def wb_X5_count_2_26 (o : Nat) (a1 : Nat) (a2 : Int32) (a3 : Int32) (v4 : Int32) (v5 : Int32) (S : hp_St) (K9 : Int32 → Int32 → hp_St → Prop) (Q : hp_St → Prop) : Prop := (((v5 < 0) → wb_X5_count_2_90 o a1 a2 a3 v4 v5 S K9 Q) ∧ ((¬ (v5 < 0)) → (st_C S a1 = 10) ∧ (st_C S (st_R S o 0) = 55) ∧ (vp_in (st_I S a1 2) (st_L S (st_R S o 0))) ∧ wp_X1_group v4 S (fun z2604 => (st_C S (st_R S (st_R S o 0) (st_I S a1 2).toNatClampNeg) = 50) ∧ (vp_in z2604 (st_L S (st_R S (st_R S o 0) (st_I S a1 2).toNatClampNeg))) ∧ (vp_in z2604 (st_L S (st_R S (st_R S o 0) (st_I S a1 2).toNatClampNeg))) ∧ (∀ S2608, S2608 = st_pI S (st_R S (st_R S o 0) (st_I S a1 2).toNatClampNeg) z2604.toNatClampNeg ((st_I S (st_R S (st_R S o 0) (st_I S a1 2).toNatClampNeg) z2604.toNatClampNeg) + (1 : Int32)) → (st_C S2608 (st_R S2608 o 1) = 55) ∧ (vp_in (st_I S2608 a1 2) (st_L S2608 (st_R S2608 o 1))) ∧ wp_X1_group v4 S2608 (fun z2613 => (st_C S2608 (st_R S2608 (st_R S2608 o 1) (st_I S2608 a1 2).toNatClampNeg) = 50) ∧ (vp_in z2613 (st_L S2608 (st_R S2608 (st_R S2608 o 1) (st_I S2608 a1 2).toNatClampNeg))) ∧ (((a2 = v5) → wb_X5_count_2_83 o a1 a2 a3 v4 v5 (st_R S2608 (st_R S2608 o 1) (st_I S2608 a1 2).toNatClampNeg) z2613 (st_I S2608 (st_R S2608 (st_R S2608 o 1) (st_I S2608 a1 2).toNatClampNeg) z2613.toNatClampNeg) S2608 K9 Q) ∧ ((¬ (a2 = v5)) → (((a2 = (v5 + (1 : Int32))) → wb_X5_count_2_83 o a1 a2 a3 v4 v5 (st_R S2608 (st_R S2608 o 1) (st_I S2608 a1 2).toNatClampNeg) z2613 (st_I S2608 (st_R S2608 (st_R S2608 o 1) (st_I S2608 a1 2).toNatClampNeg) z2613.toNatClampNeg) S2608 K9 Q) ∧ ((¬ (a2 = (v5 + (1 : Int32)))) → wb_X5_count_2_88 o a1 a2 a3 v4 v5 (st_R S2608 (st_R S2608 o 1) (st_I S2608 a1 2).toNatClampNeg) z2613 (st_I S2608 (st_R S2608 (st_R S2608 o 1) (st_I S2608 a1 2).toNatClampNeg) z2613.toNatClampNeg) (0 : Int32) S2608 K9 Q)))))))))
def wb_X5_count_2_9 (o : Nat) (a1 : Nat) (a2 : Int32) (a3 : Int32) (v4 : Int32) (v5 : Int32) (S : hp_St) (K9 : Int32 → Int32 → hp_St → Prop) (Q : hp_St → Prop) : Prop := (((v5 ≤ a3) → (((a2 = (-1 : Int32)) → wb_X5_count_2_26 o a1 a2 a3 v4 v5 S K9 Q) ∧ ((¬ (a2 = (-1 : Int32))) → (((v5 ≤ a2) → wb_X5_count_2_26 o a1 a2 a3 v4 v5 S K9 Q) ∧ ((¬ (v5 ≤ a2)) → wb_X5_count_2_99 o a1 a2 a3 S Q))))) ∧ ((¬ (v5 ≤ a3)) → wb_X5_count_2_99 o a1 a2 a3 S Q))
def wl_X5_count_2_9 (o : Nat) (a1 : Nat) (a2 : Int32) (a3 : Int32) (v4 : Int32) (v5 : Int32) (S : hp_St) (Q : hp_St → Prop) : Prop := ∃ (I : Int32 → Int32 → hp_St → Prop) (μ : Int32 → Int32 → hp_St → Nat), I v4 v5 S ∧ ∀ (v4 : Int32) (v5 : Int32) (S1 : hp_St), hp_mono S S1 → I v4 v5 S1 → wb_X5_count_2_9 o a1 a2 a3 v4 v5 S1 (fun v4' v5' S2 => I v4' v5' S2 ∧ μ v4' v5' S2 < μ v4 v5 S1) Q
def wp_X5_count_2 (o : Nat) (a1 : Nat) (a2 : Int32) (a3 : Int32) (S : hp_St) (Q : hp_St → Prop) : Prop := (st_C S a1 = 10) ∧ wl_X5_count_2_9 o a1 a2 a3 (0 : Int32) (st_I S a1 1) S Q
theorem nf_X5_count_2 : hp_nf yX5_count_2 3 = true := by decide +kernel
set_option maxHeartbeats 4000000 in
theorem m_X5_count_2 {l : Launch} {B : Nat} {D : va_G} {s0 : State} {b0 : Nat} (G : hp_G l B D s0 b0) (o : Nat) (a1 : Nat) (a2 : Int32) (a3 : Int32) (Si : hp_St) (Q : hp_St → Prop) (hc0 : st_C Si o = 5) (h : wp_X5_count_2 o a1 a2 a3 Si Q) : hp_M l B D s0 yX5_count_2 cX5_count_2 6 none 3 192 0 0 [hp_v B o, hp_v B a1, .int a2, .int a3] Si (hp_Qv B D s0 (fun S' => hp_mono Si S' ∧ Q S')) := by
  refine hp_start G (by decide +kernel) rfl rfl (lv := [(0, hp_v B o), (1, hp_v B a1), (2, .int a2), (3, .int a3)]) (by simp [lg_sl, hp_vc, hp_ci, hp_cj]) (by simp [lv_args, hp_vc, hp_ci, hp_cj]) ?_
  intro p e s m args below meth c E ls hl hR
  have hm : hp_mono Si Si := hp_mono.rf
  generalize hH : s.heap = H at hR ⊢
  generalize hLo : ([] : List Loc) = locs at hR ⊢
  have b99 : ∀ (S : hp_St) (H : Heap) (locs : List Loc) (ls : Array Slot), wb_X5_count_2_99 o a1 a2 a3 S Q → lv_has ls 6 [] → hp_S B D s0 S H locs → hp_mono Si S → W p l e ({ frames := 3, cells := 0, slots := 0, locals := 192 } : Room) s m args below meth c H locs 0 0 (MQ below (hp_Qv B D s0 (fun S' => hp_mono Si S' ∧ Q S')) args s 0 0 (fun q => B < q)) (F0 m 99 ls []) := by
    intro S H locs ls h hl hR hm
    unfold wb_X5_count_2_99 at h
    exact hp_vret E hR ⟨hm, h⟩ (Nat.le_of_ble_eq_true rfl) (Nat.le_of_ble_eq_true rfl) dX5_count_2_99
  have b9 : ∀ (v4 : Int32) (v5 : Int32) (S : hp_St) (H : Heap) (locs : List Loc) (ls : Array Slot), wl_X5_count_2_9 o a1 a2 a3 v4 v5 S Q → lv_has ls 6 [(0, hp_v B o), (1, hp_v B a1), (2, .int a2), (3, .int a3), (4, .int v4), (5, .int v5)] → hp_S B D s0 S H locs → hp_mono Si S → W p l e ({ frames := 3, cells := 0, slots := 0, locals := 192 } : Room) s m args below meth c H locs 0 0 (MQ below (hp_Qv B D s0 (fun S' => hp_mono Si S' ∧ Q S')) args s 0 0 (fun q => B < q)) (F0 m 9 ls []) := by
    intro v4 v5 S H locs ls h hl hR hm
    obtain ⟨I9, μ9, hI, hst⟩ := h
    obtain ⟨Sa9, eSa9⟩ : ∃ x, x = S := ⟨_, rfl⟩
    subst eSa9
    have key9 : ∀ (N : Nat) (v4 : Int32) (v5 : Int32) (Su9 : hp_St) (H : Heap) (locs : List Loc) (ls : Array Slot), μ9 v4 v5 Su9 < N → I9 v4 v5 Su9 → lv_has ls 6 [(0, hp_v B o), (1, hp_v B a1), (2, .int a2), (3, .int a3), (4, .int v4), (5, .int v5)] → hp_S B D s0 Su9 H locs → hp_mono Sa9 Su9 → W p l e ({ frames := 3, cells := 0, slots := 0, locals := 192 } : Room) s m args below meth c H locs 0 0 (MQ below (hp_Qv B D s0 (fun S' => hp_mono Si S' ∧ Q S')) args s 0 0 (fun q => B < q)) (F0 m 9 ls []) := by
      intro N
      induction N with
      | zero =>
        intro v4 v5 Su9 H locs ls hN
        exact absurd hN (Nat.not_lt_zero _)
      | succ N ih9 =>
        intro v4 v5 Su9 H locs ls hN hI hl hR ms9
        have h := hst v4 v5 Su9 ms9 hI
        have hm := hp_mono.tr hm ms9
        obtain ⟨K9, hKe9⟩ : ∃ K : Int32 → Int32 → hp_St → Prop, K = (fun v4' v5' Sk => I9 v4' v5' Sk ∧ μ9 v4' v5' Sk < μ9 v4 v5 Su9) := ⟨_, rfl⟩
        rw [← hKe9] at h
        have hK9 : ∀ (v4' : Int32) (v5' : Int32) (Sk : hp_St) (H : Heap) (locs : List Loc) (ls : Array Slot), K9 v4' v5' Sk → lv_has ls 6 [(0, hp_v B o), (1, hp_v B a1), (2, .int a2), (3, .int a3), (4, .int (v4')), (5, .int (v5'))] → hp_S B D s0 Sk H locs → hp_mono Sa9 Sk → W p l e ({ frames := 3, cells := 0, slots := 0, locals := 192 } : Room) s m args below meth c H locs 0 0 (MQ below (hp_Qv B D s0 (fun S' => hp_mono Si S' ∧ Q S')) args s 0 0 (fun q => B < q)) (F0 m 9 ls []) := by
          intro v4' v5' Sk H locs ls hI hl hR ms
          rw [hKe9] at hI
          exact ih9 v4' v5' Sk H locs ls (Nat.lt_of_lt_of_le hI.2 (Nat.le_of_lt_succ hN)) hI.1 hl hR ms
        have b90 : ∀ (v4 : Int32) (v5 : Int32) (S : hp_St) (H : Heap) (locs : List Loc) (ls : Array Slot), wb_X5_count_2_90 o a1 a2 a3 v4 v5 S K9 Q → lv_has ls 6 [(0, hp_v B o), (1, hp_v B a1), (2, .int a2), (3, .int a3), (4, .int v4), (5, .int v5)] → hp_S B D s0 S H locs → hp_mono Si S → hp_mono Sa9 S → W p l e ({ frames := 3, cells := 0, slots := 0, locals := 192 } : Room) s m args below meth c H locs 0 0 (MQ below (hp_Qv B D s0 (fun S' => hp_mono Si S' ∧ Q S')) args s 0 0 (fun q => B < q)) (F0 m 90 ls []) := by
          intro v4 v5 S H locs ls h hl hR hm ms9
          unfold wb_X5_count_2_90 at h
          refine hp_iinc E hl (v4 + (1 : Int32)) 4 (lv' := [(0, hp_v B o), (1, hp_v B a1), (2, .int a2), (3, .int a3), (5, .int v5)]) dX5_count_2_90 (rfl : 90 + 3 = 93) rfl (by first | rfl | (congr 1)) (by decide) rfl (fun ls hl => ?_)
          refine hp_iinc E hl (v5 + (2 : Int32)) 5 (lv' := [(4, .int (v4 + (1 : Int32))), (0, hp_v B o), (1, hp_v B a1), (2, .int a2), (3, .int a3)]) dX5_count_2_93 (rfl : 93 + 3 = 96) rfl (by first | rfl | (congr 1)) (by decide) rfl (fun ls hl => ?_)
          refine hp_goto E (tgt := 9) dX5_count_2_96 (by decide) ?_
          exact hK9 _ _ _ _ _ _ h (lv_sub hl [2, 3, 4, 5, 1, 0] rfl) hR ms9
        have b88 : ∀ (v4 : Int32) (v5 : Int32) (t0 : Nat) (t1 : Int32) (t2 : Int32) (t3 : Int32) (S : hp_St) (H : Heap) (locs : List Loc) (ls : Array Slot), wb_X5_count_2_88 o a1 a2 a3 v4 v5 t0 t1 t2 t3 S K9 Q → lv_has ls 6 [(0, hp_v B o), (1, hp_v B a1), (2, .int a2), (3, .int a3), (4, .int v4), (5, .int v5)] → hp_S B D s0 S H locs → hp_mono Si S → hp_mono Sa9 S → W p l e ({ frames := 3, cells := 0, slots := 0, locals := 192 } : Room) s m args below meth c H locs 0 0 (MQ below (hp_Qv B D s0 (fun S' => hp_mono Si S' ∧ Q S')) args s 0 0 (fun q => B < q)) (F0 m 88 ls [.int t3, .int t2, .int t1, hp_v B t0]) := by
          intro v4 v5 t0 t1 t2 t3 S H locs ls h hl hR hm ms9
          unfold wb_X5_count_2_88 at h
          refine hp_iadd E dX5_count_2_88 (rfl : 88 + 1 = 89) ?_
          obtain ⟨hc8801, h⟩ := h
          obtain ⟨hi8802, h⟩ := h
          refine hx_iast E hR hc8801 hi8802 dX5_count_2_89 (rfl : 89 + 1 = 90) (fun S8803 H locs e8805 hm8804 hR => ?_)
          have h := h S8803 e8805
          have hm := hp_mono.tr hm hm8804
          have ms9 := hp_mono.tr ms9 hm8804
          exact b90 _ _ _ _ _ _ h hl hR hm ms9
        have b83 : ∀ (v4 : Int32) (v5 : Int32) (t0 : Nat) (t1 : Int32) (t2 : Int32) (S : hp_St) (H : Heap) (locs : List Loc) (ls : Array Slot), wb_X5_count_2_83 o a1 a2 a3 v4 v5 t0 t1 t2 S K9 Q → lv_has ls 6 [(0, hp_v B o), (1, hp_v B a1), (2, .int a2), (3, .int a3), (4, .int v4), (5, .int v5)] → hp_S B D s0 S H locs → hp_mono Si S → hp_mono Sa9 S → W p l e ({ frames := 3, cells := 0, slots := 0, locals := 192 } : Room) s m args below meth c H locs 0 0 (MQ below (hp_Qv B D s0 (fun S' => hp_mono Si S' ∧ Q S')) args s 0 0 (fun q => B < q)) (F0 m 83 ls [.int t2, .int t1, hp_v B t0]) := by
          intro v4 v5 t0 t1 t2 S H locs ls h hl hR hm ms9
          unfold wb_X5_count_2_83 at h
          refine hp_iconst E (1 : Int32) (by decide) dX5_count_2_83 (rfl : 83 + 1 = 84) ?_
          refine hp_goto E (tgt := 88) dX5_count_2_84 (by decide) ?_
          exact b88 _ _ _ _ _ _ _ _ _ _ h hl hR hm ms9
        have b26 : ∀ (v4 : Int32) (v5 : Int32) (S : hp_St) (H : Heap) (locs : List Loc) (ls : Array Slot), wb_X5_count_2_26 o a1 a2 a3 v4 v5 S K9 Q → lv_has ls 6 [(0, hp_v B o), (1, hp_v B a1), (2, .int a2), (3, .int a3), (4, .int v4), (5, .int v5)] → hp_S B D s0 S H locs → hp_mono Si S → hp_mono Sa9 S → W p l e ({ frames := 3, cells := 0, slots := 0, locals := 192 } : Room) s m args below meth c H locs 0 0 (MQ below (hp_Qv B D s0 (fun S' => hp_mono Si S' ∧ Q S')) args s 0 0 (fun q => B < q)) (F0 m 26 ls []) := by
          intro v4 v5 S H locs ls h hl hR hm ms9
          unfold wb_X5_count_2_26 at h
          refine hp_iload E hl 5 rfl dX5_count_2_26 (rfl : 26 + 2 = 28) ?_
          refine hp_if_ge E dX5_count_2_28 (rfl : 28 + 3 = 31) (tgt := 34) (by decide) (fun hb => ?_) (fun hb => ?_)
          · have h := h.1 hb
            refine hp_goto E (tgt := 90) dX5_count_2_31 (by decide) ?_
            exact b90 _ _ _ _ _ _ h hl hR hm ms9
          · have h := h.2 hb
            refine hp_aload_n E hl 0 rfl 0 rfl dX5_count_2_34 (rfl : 34 + 1 = 35) ?_
            refine hp_getR E hR in_X5 (hp_mono.c hm hc0) rfl 0 (Nat.le_of_ble_eq_true rfl) rfl q258 (fun _ h => h) dX5_count_2_35 (rfl : 35 + 3 = 38) ?_
            refine hp_aload_n E hl 1 rfl 1 rfl dX5_count_2_38 (rfl : 38 + 1 = 39) ?_
            obtain ⟨hc2601, h⟩ := h
            refine hp_getIN E hR in_X10 hc2601 rfl 2 (Nat.le_of_ble_eq_true rfl) rfl q709 (fun _ h => h) dX5_count_2_39 (rfl : 39 + 3 = 42) ?_
            obtain ⟨hc2602, h⟩ := h
            obtain ⟨hi2603, h⟩ := h
            refine hp_aald E hR (Or.inr (Or.inl hc2602)) hi2603 dX5_count_2_42 (rfl : 42 + 1 = 43) ?_
            refine hp_iload E hl 4 rfl dX5_count_2_43 (rfl : 43 + 2 = 45) ?_
            refine hp_fi (hp_rSN E hR hl (m_X1_group G _ _ _ h) q1068 q1069 q73 q1070 nf_X1_group ⟨Nat.le_of_ble_eq_true rfl, Nat.le_of_ble_eq_true rfl⟩ (rest := [hp_v B (st_R S (st_R S o 0) (st_I S a1 2).toNatClampNeg)]) rfl (Nat.le_of_ble_eq_true rfl) dX5_count_2_45 ⟨Nat.le_of_ble_eq_true rfl, Nat.le_of_ble_eq_true rfl⟩) hR (rfl : 45 + 3 = 48) (fun z2604 Sx H locs hq hR => ?_)
            obtain ⟨hSx, h⟩ := hq
            rw [hSx] at hR
            refine hp_dup2 E rfl hp_vc dX5_count_2_48 (rfl : 48 + 1 = 49) ?_
            obtain ⟨hc2605, h⟩ := h
            obtain ⟨hi2606, h⟩ := h
            refine hp_iald E hR hc2605 hi2606 dX5_count_2_49 (rfl : 49 + 1 = 50) ?_
            refine hp_iconst E (1 : Int32) (by decide) dX5_count_2_50 (rfl : 50 + 1 = 51) ?_
            refine hp_iadd E dX5_count_2_51 (rfl : 51 + 1 = 52) ?_
            obtain ⟨hi2607, h⟩ := h
            refine hx_iast E hR hc2605 hi2607 dX5_count_2_52 (rfl : 52 + 1 = 53) (fun S2608 H locs e2610 hm2609 hR => ?_)
            have h := h S2608 e2610
            have hm := hp_mono.tr hm hm2609
            have ms9 := hp_mono.tr ms9 hm2609
            refine hp_aload_n E hl 0 rfl 0 rfl dX5_count_2_53 (rfl : 53 + 1 = 54) ?_
            refine hp_getR E hR in_X5 (hp_mono.c hm hc0) rfl 1 (Nat.le_of_ble_eq_true rfl) rfl q260 (fun _ h => h) dX5_count_2_54 (rfl : 54 + 3 = 57) ?_
            refine hp_aload_n E hl 1 rfl 1 rfl dX5_count_2_57 (rfl : 57 + 1 = 58) ?_
            refine hp_getIN E hR in_X10 (hp_mono.c hm2609 hc2601) rfl 2 (Nat.le_of_ble_eq_true rfl) rfl q709 (fun _ h => h) dX5_count_2_58 (rfl : 58 + 3 = 61) ?_
            obtain ⟨hc2611, h⟩ := h
            obtain ⟨hi2612, h⟩ := h
            refine hp_aald E hR (Or.inr (Or.inl hc2611)) hi2612 dX5_count_2_61 (rfl : 61 + 1 = 62) ?_
            refine hp_iload E hl 4 rfl dX5_count_2_62 (rfl : 62 + 2 = 64) ?_
            refine hp_fi (hp_rSN E hR hl (m_X1_group G _ _ _ h) q1068 q1069 q73 q1070 nf_X1_group ⟨Nat.le_of_ble_eq_true rfl, Nat.le_of_ble_eq_true rfl⟩ (rest := [hp_v B (st_R S2608 (st_R S2608 o 1) (st_I S2608 a1 2).toNatClampNeg)]) rfl (Nat.le_of_ble_eq_true rfl) dX5_count_2_64 ⟨Nat.le_of_ble_eq_true rfl, Nat.le_of_ble_eq_true rfl⟩) hR (rfl : 64 + 3 = 67) (fun z2613 Sx H locs hq hR => ?_)
            obtain ⟨hSx, h⟩ := hq
            rw [hSx] at hR
            refine hp_dup2 E rfl hp_vc dX5_count_2_67 (rfl : 67 + 1 = 68) ?_
            obtain ⟨hc2614, h⟩ := h
            obtain ⟨hi2615, h⟩ := h
            refine hp_iald E hR hc2614 hi2615 dX5_count_2_68 (rfl : 68 + 1 = 69) ?_
            refine hp_iload_n E hl 2 rfl 2 rfl dX5_count_2_69 (rfl : 69 + 1 = 70) ?_
            refine hp_iload E hl 5 rfl dX5_count_2_70 (rfl : 70 + 2 = 72) ?_
            refine hp_icmp_eq E dX5_count_2_72 (rfl : 72 + 3 = 75) (tgt := 83) (by decide) (fun hb => ?_) (fun hb => ?_)
            · have h := h.1 hb
              exact b83 _ _ _ _ _ _ _ _ _ h hl hR hm ms9
            · have h := h.2 hb
              refine hp_iload_n E hl 2 rfl 2 rfl dX5_count_2_75 (rfl : 75 + 1 = 76) ?_
              refine hp_iload E hl 5 rfl dX5_count_2_76 (rfl : 76 + 2 = 78) ?_
              refine hp_iconst E (1 : Int32) (by decide) dX5_count_2_78 (rfl : 78 + 1 = 79) ?_
              refine hp_iadd E dX5_count_2_79 (rfl : 79 + 1 = 80) ?_
              refine hp_icmp_ne E dX5_count_2_80 (rfl : 80 + 3 = 83) (tgt := 87) (by decide) (fun hb => ?_) (fun hb => ?_)
              · have h := h.1 hb
                exact b83 _ _ _ _ _ _ _ _ _ h hl hR hm ms9
              · have h := h.2 hb
                refine hp_iconst E (0 : Int32) (by decide) dX5_count_2_87 (rfl : 87 + 1 = 88) ?_
                exact b88 _ _ _ _ _ _ _ _ _ _ h hl hR hm ms9
        unfold wb_X5_count_2_9 at h
        refine hp_iload E hl 5 rfl dX5_count_2_9 (rfl : 9 + 2 = 11) ?_
        refine hp_iload_n E hl 3 rfl 3 rfl dX5_count_2_11 (rfl : 11 + 1 = 12) ?_
        refine hp_icmp_gt E dX5_count_2_12 (rfl : 12 + 3 = 15) (tgt := 99) (by decide) (fun hb => ?_) (fun hb => ?_)
        · have h := h.1 hb
          refine hp_iload_n E hl 2 rfl 2 rfl dX5_count_2_15 (rfl : 15 + 1 = 16) ?_
          refine hp_iconst E (-1 : Int32) (by decide) dX5_count_2_16 (rfl : 16 + 1 = 17) ?_
          refine hp_icmp_eq E dX5_count_2_17 (rfl : 17 + 3 = 20) (tgt := 26) (by decide) (fun hb => ?_) (fun hb => ?_)
          · have h := h.1 hb
            exact b26 _ _ _ _ _ _ h hl hR hm ms9
          · have h := h.2 hb
            refine hp_iload E hl 5 rfl dX5_count_2_20 (rfl : 20 + 2 = 22) ?_
            refine hp_iload_n E hl 2 rfl 2 rfl dX5_count_2_22 (rfl : 22 + 1 = 23) ?_
            refine hp_icmp_gt E dX5_count_2_23 (rfl : 23 + 3 = 26) (tgt := 99) (by decide) (fun hb => ?_) (fun hb => ?_)
            · have h := h.1 hb
              exact b26 _ _ _ _ _ _ h hl hR hm ms9
            · have h := h.2 hb
              exact b99 _ _ _ _ h (lv_sub hl [] rfl) hR hm
        · have h := h.2 hb
          exact b99 _ _ _ _ h (lv_sub hl [] rfl) hR hm
    exact key9 (μ9 v4 v5 Sa9 + 1) v4 v5 _ H locs ls (Nat.lt_succ_self _) hI hl hR hp_mono.rf
  unfold wp_X5_count_2 at h
  refine hp_iconst E (0 : Int32) (by decide) dX5_count_2_0 (rfl : 0 + 1 = 1) ?_
  refine hp_istore E hl 4 (lv' := [(0, hp_v B o), (1, hp_v B a1), (2, .int a2), (3, .int a3)]) dX5_count_2_1 (rfl : 1 + 2 = 3) (by decide) rfl (fun ls hl => ?_)
  refine hp_aload_n E hl 1 rfl 2 rfl dX5_count_2_3 (rfl : 3 + 1 = 4) ?_
  obtain ⟨hc1, h⟩ := h
  refine hp_getIN E hR in_X10 hc1 rfl 1 (Nat.le_of_ble_eq_true rfl) rfl q704 (fun _ h => h) dX5_count_2_4 (rfl : 4 + 3 = 7) ?_
  refine hp_istore E hl 5 (lv' := [(4, .int (0 : Int32)), (0, hp_v B o), (1, hp_v B a1), (2, .int a2), (3, .int a3)]) dX5_count_2_7 (rfl : 7 + 2 = 9) (by decide) rfl (fun ls hl => ?_)
  exact b9 _ _ _ _ _ _ h (lv_sub hl [2, 3, 4, 5, 1, 0] rfl) hR hm
def wb_X5_count_47 (o : Nat) (a1 : Nat) (v2 : Int32) (S : hp_St) (K47 : Int32 → hp_St → Prop) (Q : hp_St → Prop) : Prop := (st_C S (st_R S o 2) = 1) ∧ (st_C S (st_R S (st_R S o 2) 8) = 17) ∧ wp_J2_size (st_R S (st_R S o 2) 8) S (fun z4703 => (((v2 < z4703) → wp_J2_get (st_R S (st_R S o 2) 8) v2 S (fun z4704 => (st_C S z4704 = 10) ∧ (st_C S a1 = 4) ∧ (st_C S (st_R S a1 0) = 50) ∧ (vp_in v2 (st_L S (st_R S a1 0))) ∧ wp_X5_count_2 o z4704 (st_I S (st_R S a1 0) v2.toNatClampNeg) (st_I S a1 3) S (fun S4709 => hp_mono S S4709 → K47 (v2 + (1 : Int32)) S4709))) ∧ ((¬ (v2 < z4703)) → Q S)))
def wl_X5_count_47 (o : Nat) (a1 : Nat) (v2 : Int32) (S : hp_St) (Q : hp_St → Prop) : Prop := ∃ (I : Int32 → hp_St → Prop) (μ : Int32 → hp_St → Nat), I v2 S ∧ ∀ (v2 : Int32) (S1 : hp_St), hp_mono S S1 → I v2 S1 → wb_X5_count_47 o a1 v2 S1 (fun v2' S2 => I v2' S2 ∧ μ v2' S2 < μ v2 S1) Q
def wb_X5_count_9 (o : Nat) (a1 : Nat) (v2 : Int32) (v3 : Int32) (S : hp_St) (K2 : Int32 → hp_St → Prop) (K9 : Int32 → hp_St → Prop) (Q : hp_St → Prop) : Prop := (((v3 < (10 : Int32)) → (st_C S (st_R S o 0) = 55) ∧ (vp_in v2 (st_L S (st_R S o 0))) ∧ (st_C S (st_R S (st_R S o 0) v2.toNatClampNeg) = 50) ∧ (vp_in v3 (st_L S (st_R S (st_R S o 0) v2.toNatClampNeg))) ∧ (∀ S905, S905 = st_pI S (st_R S (st_R S o 0) v2.toNatClampNeg) v3.toNatClampNeg (0 : Int32) → (st_C S905 (st_R S905 o 1) = 55) ∧ (vp_in v2 (st_L S905 (st_R S905 o 1))) ∧ (st_C S905 (st_R S905 (st_R S905 o 1) v2.toNatClampNeg) = 50) ∧ (vp_in v3 (st_L S905 (st_R S905 (st_R S905 o 1) v2.toNatClampNeg))) ∧ (∀ S912, S912 = st_pI S905 (st_R S905 (st_R S905 o 1) v2.toNatClampNeg) v3.toNatClampNeg (0 : Int32) → K9 (v3 + (1 : Int32)) S912))) ∧ ((¬ (v3 < (10 : Int32))) → K2 (v2 + (1 : Int32)) S))
def wl_X5_count_9 (o : Nat) (a1 : Nat) (v2 : Int32) (v3 : Int32) (S : hp_St) (K2 : Int32 → hp_St → Prop) (Q : hp_St → Prop) : Prop := ∃ (I : Int32 → hp_St → Prop) (μ : Int32 → hp_St → Nat), I v3 S ∧ ∀ (v3 : Int32) (S1 : hp_St), hp_mono S S1 → I v3 S1 → wb_X5_count_9 o a1 v2 v3 S1 K2 (fun v3' S2 => I v3' S2 ∧ μ v3' S2 < μ v3 S1) Q
def wb_X5_count_2 (o : Nat) (a1 : Nat) (v2 : Int32) (S : hp_St) (K2 : Int32 → hp_St → Prop) (Q : hp_St → Prop) : Prop := (((v2 < (4 : Int32)) → wl_X5_count_9 o a1 v2 (0 : Int32) S K2 Q) ∧ ((¬ (v2 < (4 : Int32))) → wl_X5_count_47 o a1 (0 : Int32) S Q))
def wl_X5_count_2 (o : Nat) (a1 : Nat) (v2 : Int32) (S : hp_St) (Q : hp_St → Prop) : Prop := ∃ (I : Int32 → hp_St → Prop) (μ : Int32 → hp_St → Nat), I v2 S ∧ ∀ (v2 : Int32) (S1 : hp_St), hp_mono S S1 → I v2 S1 → wb_X5_count_2 o a1 v2 S1 (fun v2' S2 => I v2' S2 ∧ μ v2' S2 < μ v2 S1) Q
def wp_X5_count (o : Nat) (a1 : Nat) (S : hp_St) (Q : hp_St → Prop) : Prop := wl_X5_count_2 o a1 (0 : Int32) S Q
theorem nf_X5_count : hp_nf yX5_count 1 = true := by decide +kernel
set_option maxHeartbeats 4000000 in
theorem m_X5_count {l : Launch} {B : Nat} {D : va_G} {s0 : State} {b0 : Nat} (G : hp_G l B D s0 b0) (o : Nat) (a1 : Nat) (Si : hp_St) (Q : hp_St → Prop) (hc0 : st_C Si o = 5) (h : wp_X5_count o a1 Si Q) : hp_M l B D s0 yX5_count cX5_count 4 none 5 320 0 0 [hp_v B o, hp_v B a1] Si (hp_Qv B D s0 (fun S' => hp_mono Si S' ∧ Q S')) := by
  refine hp_start G (by decide +kernel) rfl rfl (lv := [(0, hp_v B o), (1, hp_v B a1)]) (by simp [lg_sl, hp_vc, hp_ci, hp_cj]) (by simp [lv_args, hp_vc, hp_ci, hp_cj]) ?_
  intro p e s m args below meth c E ls hl hR
  have hm : hp_mono Si Si := hp_mono.rf
  generalize hH : s.heap = H at hR ⊢
  generalize hLo : ([] : List Loc) = locs at hR ⊢
  have b47 : ∀ (v2 : Int32) (S : hp_St) (H : Heap) (locs : List Loc) (ls : Array Slot), wl_X5_count_47 o a1 v2 S Q → lv_has ls 4 [(0, hp_v B o), (1, hp_v B a1), (2, .int v2)] → hp_S B D s0 S H locs → hp_mono Si S → W p l e ({ frames := 5, cells := 0, slots := 0, locals := 320 } : Room) s m args below meth c H locs 0 0 (MQ below (hp_Qv B D s0 (fun S' => hp_mono Si S' ∧ Q S')) args s 0 0 (fun q => B < q)) (F0 m 47 ls []) := by
    intro v2 S H locs ls h hl hR hm
    obtain ⟨I47, μ47, hI, hst⟩ := h
    obtain ⟨Sa47, eSa47⟩ : ∃ x, x = S := ⟨_, rfl⟩
    subst eSa47
    have key47 : ∀ (N : Nat) (v2 : Int32) (Su47 : hp_St) (H : Heap) (locs : List Loc) (ls : Array Slot), μ47 v2 Su47 < N → I47 v2 Su47 → lv_has ls 4 [(0, hp_v B o), (1, hp_v B a1), (2, .int v2)] → hp_S B D s0 Su47 H locs → hp_mono Sa47 Su47 → W p l e ({ frames := 5, cells := 0, slots := 0, locals := 320 } : Room) s m args below meth c H locs 0 0 (MQ below (hp_Qv B D s0 (fun S' => hp_mono Si S' ∧ Q S')) args s 0 0 (fun q => B < q)) (F0 m 47 ls []) := by
      intro N
      induction N with
      | zero =>
        intro v2 Su47 H locs ls hN
        exact absurd hN (Nat.not_lt_zero _)
      | succ N ih47 =>
        intro v2 Su47 H locs ls hN hI hl hR ms47
        have h := hst v2 Su47 ms47 hI
        have hm := hp_mono.tr hm ms47
        obtain ⟨K47, hKe47⟩ : ∃ K : Int32 → hp_St → Prop, K = (fun v2' Sk => I47 v2' Sk ∧ μ47 v2' Sk < μ47 v2 Su47) := ⟨_, rfl⟩
        rw [← hKe47] at h
        have hK47 : ∀ (v2' : Int32) (Sk : hp_St) (H : Heap) (locs : List Loc) (ls : Array Slot), K47 v2' Sk → lv_has ls 4 [(0, hp_v B o), (1, hp_v B a1), (2, .int (v2'))] → hp_S B D s0 Sk H locs → hp_mono Sa47 Sk → W p l e ({ frames := 5, cells := 0, slots := 0, locals := 320 } : Room) s m args below meth c H locs 0 0 (MQ below (hp_Qv B D s0 (fun S' => hp_mono Si S' ∧ Q S')) args s 0 0 (fun q => B < q)) (F0 m 47 ls []) := by
          intro v2' Sk H locs ls hI hl hR ms
          rw [hKe47] at hI
          exact ih47 v2' Sk H locs ls (Nat.lt_of_lt_of_le hI.2 (Nat.le_of_lt_succ hN)) hI.1 hl hR ms
        unfold wb_X5_count_47 at h
        refine hp_iload_n E hl 2 rfl 2 rfl dX5_count_47 (rfl : 47 + 1 = 48) ?_
        refine hp_aload_n E hl 0 rfl 0 rfl dX5_count_48 (rfl : 48 + 1 = 49) ?_
        refine hp_getR E hR in_X5 (hp_mono.c hm hc0) rfl 2 (Nat.le_of_ble_eq_true rfl) rfl q262 (fun _ h => h) dX5_count_49 (rfl : 49 + 3 = 52) ?_
        obtain ⟨hc4701, h⟩ := h
        refine hp_getRN E hR in_X1 hc4701 rfl 8 (Nat.le_of_ble_eq_true rfl) rfl q327 (fun _ h => h) dX5_count_52 (rfl : 52 + 3 = 55) ?_
        obtain ⟨hc4702, h⟩ := h
        refine hp_fi (hp_rV E hR hl (m_J2_size G _ _ _ hc4702 h) hc4702 (ci := 16) rfl rfl q1061 q545 q546 q78 q547 nf_J2_size ⟨Nat.le_of_ble_eq_true rfl, Nat.le_of_ble_eq_true rfl⟩ (rest := [.int v2]) rfl (Nat.le_of_ble_eq_true rfl) dX5_count_55 ⟨Nat.le_of_ble_eq_true rfl, Nat.le_of_ble_eq_true rfl⟩) hR (rfl : 55 + 3 = 58) (fun z4703 Sx H locs hq hR => ?_)
        obtain ⟨hSx, h⟩ := hq
        rw [hSx] at hR
        refine hp_icmp_ge E dX5_count_58 (rfl : 58 + 3 = 61) (tgt := 95) (by decide) (fun hb => ?_) (fun hb => ?_)
        · have h := h.1 hb
          refine hp_aload_n E hl 0 rfl 0 rfl dX5_count_61 (rfl : 61 + 1 = 62) ?_
          refine hp_aload_n E hl 0 rfl 0 rfl dX5_count_62 (rfl : 62 + 1 = 63) ?_
          refine hp_getR E hR in_X5 (hp_mono.c hm hc0) rfl 2 (Nat.le_of_ble_eq_true rfl) rfl q262 (fun _ h => h) dX5_count_63 (rfl : 63 + 3 = 66) ?_
          refine hp_getRN E hR in_X1 hc4701 rfl 8 (Nat.le_of_ble_eq_true rfl) rfl q327 (fun _ h => h) dX5_count_66 (rfl : 66 + 3 = 69) ?_
          refine hp_iload_n E hl 2 rfl 2 rfl dX5_count_69 (rfl : 69 + 1 = 70) ?_
          refine hp_fa (hp_rV E hR hl (m_J2_get G _ _ _ _ hc4702 h) hc4702 (ci := 16) rfl rfl q1062 q728 q729 q78 q730 nf_J2_get ⟨Nat.le_of_ble_eq_true rfl, Nat.le_of_ble_eq_true rfl⟩ (rest := [hp_v B o]) rfl (Nat.le_of_ble_eq_true rfl) dX5_count_70 ⟨Nat.le_of_ble_eq_true rfl, Nat.le_of_ble_eq_true rfl⟩) hR (rfl : 70 + 3 = 73) (fun z4704 Sx H locs hq hR => ?_)
          obtain ⟨hSx, h⟩ := hq
          rw [hSx] at hR
          obtain ⟨hc4705, h⟩ := h
          refine hp_castS E hR hc4705 (ci := 9) rfl q1063 dX5_count_73 (rfl : 73 + 3 = 76) ?_
          refine hp_aload_n E hl 1 rfl 1 rfl dX5_count_76 (rfl : 76 + 1 = 77) ?_
          obtain ⟨hc4706, h⟩ := h
          refine hp_getRN E hR in_X4 hc4706 rfl 0 (Nat.le_of_ble_eq_true rfl) rfl q229 (fun _ h => h) dX5_count_77 (rfl : 77 + 3 = 80) ?_
          refine hp_iload_n E hl 2 rfl 2 rfl dX5_count_80 (rfl : 80 + 1 = 81) ?_
          obtain ⟨hc4707, h⟩ := h
          obtain ⟨hi4708, h⟩ := h
          refine hp_iald E hR hc4707 hi4708 dX5_count_81 (rfl : 81 + 1 = 82) ?_
          refine hp_aload_n E hl 1 rfl 1 rfl dX5_count_82 (rfl : 82 + 1 = 83) ?_
          refine hp_getIN E hR in_X4 hc4706 rfl 3 (Nat.le_of_ble_eq_true rfl) rfl q236 (fun _ h => h) dX5_count_83 (rfl : 83 + 3 = 86) ?_
          refine hp_fv (hp_rV E hR hl (m_X5_count_2 G _ _ _ _ _ _ (hp_mono.c hm hc0) h) (hp_mono.c hm hc0) (ci := 4) rfl rfl q1064 q1066 qs23 q80 q1067 nf_X5_count_2 ⟨Nat.le_of_ble_eq_true rfl, Nat.le_of_ble_eq_true rfl⟩ (rest := []) rfl (Nat.le_of_ble_eq_true rfl) dX5_count_86 ⟨Nat.le_of_ble_eq_true rfl, Nat.le_of_ble_eq_true rfl⟩) hR (rfl : 86 + 3 = 89) (fun S4709 H locs hq hR => ?_)
          obtain ⟨hm4710, h⟩ := hq
          have h := h hm4710
          have hm := hp_mono.tr hm hm4710
          have ms47 := hp_mono.tr ms47 hm4710
          refine hp_iinc E hl (v2 + (1 : Int32)) 2 (lv' := [(0, hp_v B o), (1, hp_v B a1)]) dX5_count_89 (rfl : 89 + 3 = 92) rfl (by first | rfl | (congr 1)) (by decide) (by simp [hp_vc, hp_ci, hp_cj]) (fun ls hl => ?_)
          refine hp_goto E (tgt := 47) dX5_count_92 (by decide) ?_
          exact hK47 _ _ _ _ _ h (lv_sub hl [1, 2, 0] rfl) hR ms47
        · have h := h.2 hb
          exact hp_vret E hR ⟨hm, h⟩ (Nat.le_of_ble_eq_true rfl) (Nat.le_of_ble_eq_true rfl) dX5_count_95
    exact key47 (μ47 v2 Sa47 + 1) v2 _ H locs ls (Nat.lt_succ_self _) hI hl hR hp_mono.rf
  have b2 : ∀ (v2 : Int32) (S : hp_St) (H : Heap) (locs : List Loc) (ls : Array Slot), wl_X5_count_2 o a1 v2 S Q → lv_has ls 4 [(0, hp_v B o), (1, hp_v B a1), (2, .int v2)] → hp_S B D s0 S H locs → hp_mono Si S → W p l e ({ frames := 5, cells := 0, slots := 0, locals := 320 } : Room) s m args below meth c H locs 0 0 (MQ below (hp_Qv B D s0 (fun S' => hp_mono Si S' ∧ Q S')) args s 0 0 (fun q => B < q)) (F0 m 2 ls []) := by
    intro v2 S H locs ls h hl hR hm
    obtain ⟨I2, μ2, hI, hst⟩ := h
    obtain ⟨Sa2, eSa2⟩ : ∃ x, x = S := ⟨_, rfl⟩
    subst eSa2
    have key2 : ∀ (N : Nat) (v2 : Int32) (Su2 : hp_St) (H : Heap) (locs : List Loc) (ls : Array Slot), μ2 v2 Su2 < N → I2 v2 Su2 → lv_has ls 4 [(0, hp_v B o), (1, hp_v B a1), (2, .int v2)] → hp_S B D s0 Su2 H locs → hp_mono Sa2 Su2 → W p l e ({ frames := 5, cells := 0, slots := 0, locals := 320 } : Room) s m args below meth c H locs 0 0 (MQ below (hp_Qv B D s0 (fun S' => hp_mono Si S' ∧ Q S')) args s 0 0 (fun q => B < q)) (F0 m 2 ls []) := by
      intro N
      induction N with
      | zero =>
        intro v2 Su2 H locs ls hN
        exact absurd hN (Nat.not_lt_zero _)
      | succ N ih2 =>
        intro v2 Su2 H locs ls hN hI hl hR ms2
        have h := hst v2 Su2 ms2 hI
        have hm := hp_mono.tr hm ms2
        obtain ⟨K2, hKe2⟩ : ∃ K : Int32 → hp_St → Prop, K = (fun v2' Sk => I2 v2' Sk ∧ μ2 v2' Sk < μ2 v2 Su2) := ⟨_, rfl⟩
        rw [← hKe2] at h
        have hK2 : ∀ (v2' : Int32) (Sk : hp_St) (H : Heap) (locs : List Loc) (ls : Array Slot), K2 v2' Sk → lv_has ls 4 [(0, hp_v B o), (1, hp_v B a1), (2, .int (v2'))] → hp_S B D s0 Sk H locs → hp_mono Sa2 Sk → W p l e ({ frames := 5, cells := 0, slots := 0, locals := 320 } : Room) s m args below meth c H locs 0 0 (MQ below (hp_Qv B D s0 (fun S' => hp_mono Si S' ∧ Q S')) args s 0 0 (fun q => B < q)) (F0 m 2 ls []) := by
          intro v2' Sk H locs ls hI hl hR ms
          rw [hKe2] at hI
          exact ih2 v2' Sk H locs ls (Nat.lt_of_lt_of_le hI.2 (Nat.le_of_lt_succ hN)) hI.1 hl hR ms
        have b9 : ∀ (v2 : Int32) (v3 : Int32) (S : hp_St) (H : Heap) (locs : List Loc) (ls : Array Slot), wl_X5_count_9 o a1 v2 v3 S K2 Q → lv_has ls 4 [(0, hp_v B o), (1, hp_v B a1), (2, .int v2), (3, .int v3)] → hp_S B D s0 S H locs → hp_mono Si S → hp_mono Sa2 S → W p l e ({ frames := 5, cells := 0, slots := 0, locals := 320 } : Room) s m args below meth c H locs 0 0 (MQ below (hp_Qv B D s0 (fun S' => hp_mono Si S' ∧ Q S')) args s 0 0 (fun q => B < q)) (F0 m 9 ls []) := by
          intro v2 v3 S H locs ls h hl hR hm ms2
          obtain ⟨I9, μ9, hI, hst⟩ := h
          obtain ⟨Sa9, eSa9⟩ : ∃ x, x = S := ⟨_, rfl⟩
          subst eSa9
          have key9 : ∀ (N : Nat) (v3 : Int32) (Su9 : hp_St) (H : Heap) (locs : List Loc) (ls : Array Slot), μ9 v3 Su9 < N → I9 v3 Su9 → lv_has ls 4 [(0, hp_v B o), (1, hp_v B a1), (2, .int v2), (3, .int v3)] → hp_S B D s0 Su9 H locs → hp_mono Sa9 Su9 → W p l e ({ frames := 5, cells := 0, slots := 0, locals := 320 } : Room) s m args below meth c H locs 0 0 (MQ below (hp_Qv B D s0 (fun S' => hp_mono Si S' ∧ Q S')) args s 0 0 (fun q => B < q)) (F0 m 9 ls []) := by
            intro N
            induction N with
            | zero =>
              intro v3 Su9 H locs ls hN
              exact absurd hN (Nat.not_lt_zero _)
            | succ N ih9 =>
              intro v3 Su9 H locs ls hN hI hl hR ms9
              have h := hst v3 Su9 ms9 hI
              have hm := hp_mono.tr hm ms9
              have ms2 := hp_mono.tr ms2 ms9
              obtain ⟨K9, hKe9⟩ : ∃ K : Int32 → hp_St → Prop, K = (fun v3' Sk => I9 v3' Sk ∧ μ9 v3' Sk < μ9 v3 Su9) := ⟨_, rfl⟩
              rw [← hKe9] at h
              have hK9 : ∀ (v3' : Int32) (Sk : hp_St) (H : Heap) (locs : List Loc) (ls : Array Slot), K9 v3' Sk → lv_has ls 4 [(0, hp_v B o), (1, hp_v B a1), (2, .int v2), (3, .int (v3'))] → hp_S B D s0 Sk H locs → hp_mono Sa9 Sk → W p l e ({ frames := 5, cells := 0, slots := 0, locals := 320 } : Room) s m args below meth c H locs 0 0 (MQ below (hp_Qv B D s0 (fun S' => hp_mono Si S' ∧ Q S')) args s 0 0 (fun q => B < q)) (F0 m 9 ls []) := by
                intro v3' Sk H locs ls hI hl hR ms
                rw [hKe9] at hI
                exact ih9 v3' Sk H locs ls (Nat.lt_of_lt_of_le hI.2 (Nat.le_of_lt_succ hN)) hI.1 hl hR ms
              unfold wb_X5_count_9 at h
              refine hp_iload_n E hl 3 rfl 3 rfl dX5_count_9 (rfl : 9 + 1 = 10) ?_
              refine hp_bipush E (10 : Int32) (by decide) dX5_count_10 (rfl : 10 + 2 = 12) ?_
              refine hp_icmp_ge E dX5_count_12 (rfl : 12 + 3 = 15) (tgt := 39) (by decide) (fun hb => ?_) (fun hb => ?_)
              · have h := h.1 hb
                refine hp_aload_n E hl 0 rfl 0 rfl dX5_count_15 (rfl : 15 + 1 = 16) ?_
                refine hp_getR E hR in_X5 (hp_mono.c hm hc0) rfl 0 (Nat.le_of_ble_eq_true rfl) rfl q258 (fun _ h => h) dX5_count_16 (rfl : 16 + 3 = 19) ?_
                refine hp_iload_n E hl 2 rfl 2 rfl dX5_count_19 (rfl : 19 + 1 = 20) ?_
                obtain ⟨hc901, h⟩ := h
                obtain ⟨hi902, h⟩ := h
                refine hp_aald E hR (Or.inr (Or.inl hc901)) hi902 dX5_count_20 (rfl : 20 + 1 = 21) ?_
                refine hp_iload_n E hl 3 rfl 3 rfl dX5_count_21 (rfl : 21 + 1 = 22) ?_
                refine hp_iconst E (0 : Int32) (by decide) dX5_count_22 (rfl : 22 + 1 = 23) ?_
                obtain ⟨hc903, h⟩ := h
                obtain ⟨hi904, h⟩ := h
                refine hx_iast E hR hc903 hi904 dX5_count_23 (rfl : 23 + 1 = 24) (fun S905 H locs e907 hm906 hR => ?_)
                have h := h S905 e907
                have hm := hp_mono.tr hm hm906
                have ms2 := hp_mono.tr ms2 hm906
                have ms9 := hp_mono.tr ms9 hm906
                refine hp_aload_n E hl 0 rfl 0 rfl dX5_count_24 (rfl : 24 + 1 = 25) ?_
                refine hp_getR E hR in_X5 (hp_mono.c hm hc0) rfl 1 (Nat.le_of_ble_eq_true rfl) rfl q260 (fun _ h => h) dX5_count_25 (rfl : 25 + 3 = 28) ?_
                refine hp_iload_n E hl 2 rfl 2 rfl dX5_count_28 (rfl : 28 + 1 = 29) ?_
                obtain ⟨hc908, h⟩ := h
                obtain ⟨hi909, h⟩ := h
                refine hp_aald E hR (Or.inr (Or.inl hc908)) hi909 dX5_count_29 (rfl : 29 + 1 = 30) ?_
                refine hp_iload_n E hl 3 rfl 3 rfl dX5_count_30 (rfl : 30 + 1 = 31) ?_
                refine hp_iconst E (0 : Int32) (by decide) dX5_count_31 (rfl : 31 + 1 = 32) ?_
                obtain ⟨hc910, h⟩ := h
                obtain ⟨hi911, h⟩ := h
                refine hx_iast E hR hc910 hi911 dX5_count_32 (rfl : 32 + 1 = 33) (fun S912 H locs e914 hm913 hR => ?_)
                have h := h S912 e914
                have hm := hp_mono.tr hm hm913
                have ms2 := hp_mono.tr ms2 hm913
                have ms9 := hp_mono.tr ms9 hm913
                refine hp_iinc E hl (v3 + (1 : Int32)) 3 (lv' := [(0, hp_v B o), (1, hp_v B a1), (2, .int v2)]) dX5_count_33 (rfl : 33 + 3 = 36) rfl (by first | rfl | (congr 1)) (by decide) rfl (fun ls hl => ?_)
                refine hp_goto E (tgt := 9) dX5_count_36 (by decide) ?_
                exact hK9 _ _ _ _ _ h (lv_sub hl [1, 2, 3, 0] rfl) hR ms9
              · have h := h.2 hb
                refine hp_iinc E hl (v2 + (1 : Int32)) 2 (lv' := [(0, hp_v B o), (1, hp_v B a1), (3, .int v3)]) dX5_count_39 (rfl : 39 + 3 = 42) rfl (by first | rfl | (congr 1)) (by decide) (by simp [hp_vc, hp_ci, hp_cj]) (fun ls hl => ?_)
                refine hp_goto E (tgt := 2) dX5_count_42 (by decide) ?_
                exact hK2 _ _ _ _ _ h (lv_sub hl [1, 2, 0] rfl) hR ms2
          exact key9 (μ9 v3 Sa9 + 1) v3 _ H locs ls (Nat.lt_succ_self _) hI hl hR hp_mono.rf
        unfold wb_X5_count_2 at h
        refine hp_iload_n E hl 2 rfl 2 rfl dX5_count_2 (rfl : 2 + 1 = 3) ?_
        refine hp_iconst E (4 : Int32) (by decide) dX5_count_3 (rfl : 3 + 1 = 4) ?_
        refine hp_icmp_ge E dX5_count_4 (rfl : 4 + 3 = 7) (tgt := 45) (by decide) (fun hb => ?_) (fun hb => ?_)
        · have h := h.1 hb
          refine hp_iconst E (0 : Int32) (by decide) dX5_count_7 (rfl : 7 + 1 = 8) ?_
          refine hp_istore_n E hl 3 rfl (lv' := [(0, hp_v B o), (1, hp_v B a1), (2, .int v2)]) dX5_count_8 (rfl : 8 + 1 = 9) (by decide) rfl (fun ls hl => ?_)
          exact b9 _ _ _ _ _ _ h (lv_sub hl [1, 2, 3, 0] rfl) hR hm ms2
        · have h := h.2 hb
          refine hp_iconst E (0 : Int32) (by decide) dX5_count_45 (rfl : 45 + 1 = 46) ?_
          refine hp_istore_n E hl 2 rfl (lv' := [(0, hp_v B o), (1, hp_v B a1)]) dX5_count_46 (rfl : 46 + 1 = 47) (by decide) (by simp [hp_vc, hp_ci, hp_cj]) (fun ls hl => ?_)
          exact b47 _ _ _ _ _ h (lv_sub hl [1, 2, 0] rfl) hR hm
    exact key2 (μ2 v2 Sa2 + 1) v2 _ H locs ls (Nat.lt_succ_self _) hI hl hR hp_mono.rf
  unfold wp_X5_count at h
  refine hp_iconst E (0 : Int32) (by decide) dX5_count_0 (rfl : 0 + 1 = 1) ?_
  refine hp_istore_n E hl 2 rfl (lv' := [(0, hp_v B o), (1, hp_v B a1)]) dX5_count_1 (rfl : 1 + 1 = 2) (by decide) (by simp [hp_vc, hp_ci, hp_cj]) (fun ls hl => ?_)
  exact b2 _ _ _ _ _ h (lv_sub hl [1, 2, 0] rfl) hR hm
def wb_X5_live_62 (o : Nat) (a1 : Int32) (a2 : Int32) (a3 : Int32) (t0 : Int32) (S : hp_St) (Q : Int32 → Prop) : Prop := Q t0
def wp_X5_live (o : Nat) (a1 : Int32) (a2 : Int32) (a3 : Int32) (S : hp_St) (Q : Int32 → Prop) : Prop := (st_C S (st_R S o 0) = 55) ∧ (vp_in a1 (st_L S (st_R S o 0))) ∧ (st_C S (st_R S (st_R S o 0) a1.toNatClampNeg) = 50) ∧ (vp_in a2 (st_L S (st_R S (st_R S o 0) a1.toNatClampNeg))) ∧ (st_C S (st_R S o 1) = 55) ∧ (vp_in a1 (st_L S (st_R S o 1))) ∧ (st_C S (st_R S (st_R S o 1) a1.toNatClampNeg) = 50) ∧ (vp_in a2 (st_L S (st_R S (st_R S o 1) a1.toNatClampNeg))) ∧ ((((st_I S (st_R S (st_R S o 0) a1.toNatClampNeg) a2.toNatClampNeg) = 0) → (st_C S (st_R S o 2) = 1) ∧ (st_C S (st_R S (st_R S o 2) 11) = 55) ∧ (vp_in a1 (st_L S (st_R S (st_R S o 2) 11))) ∧ (st_C S (st_R S (st_R S (st_R S o 2) 11) a1.toNatClampNeg) = 50) ∧ (vp_in a2 (st_L S (st_R S (st_R S (st_R S o 2) 11) a1.toNatClampNeg))) ∧ wb_X5_live_62 o a1 a2 a3 (st_I S (st_R S (st_R S (st_R S o 2) 11) a1.toNatClampNeg) a2.toNatClampNeg) S Q) ∧ ((¬ ((st_I S (st_R S (st_R S o 0) a1.toNatClampNeg) a2.toNatClampNeg) = 0)) → (¬ (st_I S (st_R S (st_R S o 0) a1.toNatClampNeg) a2.toNatClampNeg) = 0) ∧ wb_X5_live_62 o a1 a2 a3 (((1000 : Int32) * ((st_I S (st_R S (st_R S o 0) a1.toNatClampNeg) a2.toNatClampNeg) - (if (0 : Int32) < (if ((st_I S (st_R S (st_R S o 1) a1.toNatClampNeg) a2.toNatClampNeg) + a3) < (st_I S (st_R S (st_R S o 0) a1.toNatClampNeg) a2.toNatClampNeg) then ((st_I S (st_R S (st_R S o 1) a1.toNatClampNeg) a2.toNatClampNeg) + a3) else (st_I S (st_R S (st_R S o 0) a1.toNatClampNeg) a2.toNatClampNeg)) then (if ((st_I S (st_R S (st_R S o 1) a1.toNatClampNeg) a2.toNatClampNeg) + a3) < (st_I S (st_R S (st_R S o 0) a1.toNatClampNeg) a2.toNatClampNeg) then ((st_I S (st_R S (st_R S o 1) a1.toNatClampNeg) a2.toNatClampNeg) + a3) else (st_I S (st_R S (st_R S o 0) a1.toNatClampNeg) a2.toNatClampNeg)) else (0 : Int32)))) / (st_I S (st_R S (st_R S o 0) a1.toNatClampNeg) a2.toNatClampNeg)) S Q))
theorem nf_X5_live : hp_nf yX5_live 3 = true := by decide +kernel
set_option maxHeartbeats 4000000 in
theorem m_X5_live {l : Launch} {B : Nat} {D : va_G} {s0 : State} {b0 : Nat} (G : hp_G l B D s0 b0) (o : Nat) (a1 : Int32) (a2 : Int32) (a3 : Int32) (Si : hp_St) (Q : Int32 → Prop) (hc0 : st_C Si o = 5) (h : wp_X5_live o a1 a2 a3 Si Q) : hp_M l B D s0 yX5_live cX5_live 6 (some .int) 2 128 0 0 [hp_v B o, .int a1, .int a2, .int a3] Si (hp_Qi B D s0 (fun r S' => S' = Si ∧ Q r)) := by
  refine hp_start G (by decide +kernel) rfl rfl (lv := [(0, hp_v B o), (1, .int a1), (2, .int a2), (3, .int a3)]) (by simp [lg_sl, hp_vc, hp_ci, hp_cj]) (by simp [lv_args, hp_vc, hp_ci, hp_cj]) ?_
  intro p e s m args below meth c E ls hl hR
  generalize hH : s.heap = H at hR ⊢
  generalize hLo : ([] : List Loc) = locs at hR ⊢
  have b62 : ∀ (t0 : Int32) (H : Heap) (locs : List Loc) (ls : Array Slot), wb_X5_live_62 o a1 a2 a3 t0 Si Q → lv_has ls 6 [] → hp_S B D s0 Si H locs → W p l e ({ frames := 2, cells := 0, slots := 0, locals := 128 } : Room) s m args below meth c H locs 0 0 (MQ below (hp_Qi B D s0 (fun r S' => S' = Si ∧ Q r)) args s 0 0 (fun q => B < q)) (F0 m 62 ls [.int t0]) := by
    intro t0 H locs ls h hl hR
    unfold wb_X5_live_62 at h
    exact hp_iret E hR ⟨rfl, h⟩ (Nat.le_of_ble_eq_true rfl) (Nat.le_of_ble_eq_true rfl) dX5_live_62
  unfold wp_X5_live at h
  refine hp_aload_n E hl 0 rfl 0 rfl dX5_live_0 (rfl : 0 + 1 = 1) ?_
  refine hp_getR E hR in_X5 hc0 rfl 0 (Nat.le_of_ble_eq_true rfl) rfl q258 (fun _ h => h) dX5_live_1 (rfl : 1 + 3 = 4) ?_
  refine hp_iload_n E hl 1 rfl 1 rfl dX5_live_4 (rfl : 4 + 1 = 5) ?_
  obtain ⟨hc1, h⟩ := h
  obtain ⟨hi2, h⟩ := h
  refine hp_aald E hR (Or.inr (Or.inl hc1)) hi2 dX5_live_5 (rfl : 5 + 1 = 6) ?_
  refine hp_iload_n E hl 2 rfl 2 rfl dX5_live_6 (rfl : 6 + 1 = 7) ?_
  obtain ⟨hc3, h⟩ := h
  obtain ⟨hi4, h⟩ := h
  refine hp_iald E hR hc3 hi4 dX5_live_7 (rfl : 7 + 1 = 8) ?_
  refine hp_istore E hl 4 (lv' := [(0, hp_v B o), (1, .int a1), (2, .int a2), (3, .int a3)]) dX5_live_8 (rfl : 8 + 2 = 10) (by decide) rfl (fun ls hl => ?_)
  refine hp_iconst E (0 : Int32) (by decide) dX5_live_10 (rfl : 10 + 1 = 11) ?_
  refine hp_iload E hl 0 rfl dX5_live_11 (rfl : 11 + 2 = 13) ?_
  refine hp_aload_n E hl 0 rfl 1 rfl dX5_live_13 (rfl : 13 + 1 = 14) ?_
  refine hp_getR E hR in_X5 hc0 rfl 1 (Nat.le_of_ble_eq_true rfl) rfl q260 (fun _ h => h) dX5_live_14 (rfl : 14 + 3 = 17) ?_
  refine hp_iload_n E hl 1 rfl 2 rfl dX5_live_17 (rfl : 17 + 1 = 18) ?_
  obtain ⟨hc5, h⟩ := h
  obtain ⟨hi6, h⟩ := h
  refine hp_aald E hR (Or.inr (Or.inl hc5)) hi6 dX5_live_18 (rfl : 18 + 1 = 19) ?_
  refine hp_iload_n E hl 2 rfl 3 rfl dX5_live_19 (rfl : 19 + 1 = 20) ?_
  obtain ⟨hc7, h⟩ := h
  obtain ⟨hi8, h⟩ := h
  refine hp_iald E hR hc7 hi8 dX5_live_20 (rfl : 20 + 1 = 21) ?_
  refine hp_iload_n E hl 3 rfl 4 rfl dX5_live_21 (rfl : 21 + 1 = 22) ?_
  refine hp_iadd E dX5_live_22 (rfl : 22 + 1 = 23) ?_
  refine hp_min E hl q1080 (Nat.le_of_ble_eq_true rfl) (Nat.le_of_ble_eq_true rfl) (Nat.le_of_ble_eq_true rfl) (Nat.le_of_ble_eq_true rfl) (Nat.le_of_ble_eq_true rfl) dX5_live_23 (rfl : 23 + 3 = 26) ?_
  refine hp_max E hl q1081 (Nat.le_of_ble_eq_true rfl) (Nat.le_of_ble_eq_true rfl) (Nat.le_of_ble_eq_true rfl) (Nat.le_of_ble_eq_true rfl) (Nat.le_of_ble_eq_true rfl) dX5_live_26 (rfl : 26 + 3 = 29) ?_
  refine hp_istore E hl 5 (lv' := [(4, .int (st_I Si (st_R Si (st_R Si o 0) a1.toNatClampNeg) a2.toNatClampNeg)), (0, hp_v B o), (1, .int a1), (2, .int a2), (3, .int a3)]) dX5_live_29 (rfl : 29 + 2 = 31) (by decide) rfl (fun ls hl => ?_)
  refine hp_iload E hl 1 rfl dX5_live_31 (rfl : 31 + 2 = 33) ?_
  refine hp_if_ne E dX5_live_33 (rfl : 33 + 3 = 36) (tgt := 50) (by decide) (fun hb => ?_) (fun hb => ?_)
  · have h := h.1 hb
    refine hp_aload_n E hl 0 rfl 2 rfl dX5_live_36 (rfl : 36 + 1 = 37) ?_
    refine hp_getR E hR in_X5 hc0 rfl 2 (Nat.le_of_ble_eq_true rfl) rfl q262 (fun _ h => h) dX5_live_37 (rfl : 37 + 3 = 40) ?_
    obtain ⟨hc9, h⟩ := h
    refine hp_getRN E hR in_X1 hc9 rfl 11 (Nat.le_of_ble_eq_true rfl) rfl q332 (fun _ h => h) dX5_live_40 (rfl : 40 + 3 = 43) ?_
    refine hp_iload_n E hl 1 rfl 3 rfl dX5_live_43 (rfl : 43 + 1 = 44) ?_
    obtain ⟨hc10, h⟩ := h
    obtain ⟨hi11, h⟩ := h
    refine hp_aald E hR (Or.inr (Or.inl hc10)) hi11 dX5_live_44 (rfl : 44 + 1 = 45) ?_
    refine hp_iload_n E hl 2 rfl 4 rfl dX5_live_45 (rfl : 45 + 1 = 46) ?_
    obtain ⟨hc12, h⟩ := h
    obtain ⟨hi13, h⟩ := h
    refine hp_iald E hR hc12 hi13 dX5_live_46 (rfl : 46 + 1 = 47) ?_
    refine hp_goto E (tgt := 62) dX5_live_47 (by decide) ?_
    exact b62 _ _ _ _ h (lv_sub hl [] rfl) hR
  · have h := h.2 hb
    refine hp_sipush E (1000 : Int32) (by decide) dX5_live_50 (rfl : 50 + 3 = 53) ?_
    refine hp_iload E hl 1 rfl dX5_live_53 (rfl : 53 + 2 = 55) ?_
    refine hp_iload E hl 0 rfl dX5_live_55 (rfl : 55 + 2 = 57) ?_
    refine hp_isub E dX5_live_57 (rfl : 57 + 1 = 58) ?_
    refine hp_imul E dX5_live_58 (rfl : 58 + 1 = 59) ?_
    refine hp_iload E hl 1 rfl dX5_live_59 (rfl : 59 + 2 = 61) ?_
    obtain ⟨hz14, h⟩ := h
    refine hp_idiv E hz14 dX5_live_61 (rfl : 61 + 1 = 62) ?_
    exact b62 _ _ _ _ h (lv_sub hl [] rfl) hR
def wb_X5_of_43 (o : Nat) (a1 : Int32) (a2 : Int32) (a3 : Int32) (t0 : Int32) (S : hp_St) (Q : Int32 → Prop) : Prop := Q t0
def wb_X5_of_40 (o : Nat) (a1 : Int32) (a2 : Int32) (a3 : Int32) (t0 : Nat) (t1 : Int32) (t2 : Int32) (t3 : Int32) (S : hp_St) (Q : Int32 → Prop) : Prop := (st_C S t0 = 5) ∧ wp_X5_live t0 t1 t2 t3 S (fun z4002 => wb_X5_of_43 o a1 a2 a3 z4002 S Q)
def wp_X5_of (o : Nat) (a1 : Int32) (a2 : Int32) (a3 : Int32) (S : hp_St) (Q : Int32 → Prop) : Prop := (((a1 = 0) → (st_C S (st_R S o 2) = 1) ∧ (st_C S (st_R S (st_R S o 2) 11) = 55) ∧ (vp_in a2 (st_L S (st_R S (st_R S o 2) 11))) ∧ (st_C S (st_R S (st_R S (st_R S o 2) 11) a2.toNatClampNeg) = 50) ∧ (vp_in a3 (st_L S (st_R S (st_R S (st_R S o 2) 11) a2.toNatClampNeg))) ∧ wb_X5_of_43 o a1 a2 a3 (st_I S (st_R S (st_R S (st_R S o 2) 11) a2.toNatClampNeg) a3.toNatClampNeg) S Q) ∧ ((¬ (a1 = 0)) → (((a1 = (1 : Int32)) → wb_X5_of_40 o a1 a2 a3 o a2 a3 (0 : Int32) S Q) ∧ ((¬ (a1 = (1 : Int32))) → (((a1 = (2 : Int32)) → wb_X5_of_40 o a1 a2 a3 o a2 a3 (1 : Int32) S Q) ∧ ((¬ (a1 = (2 : Int32))) → wb_X5_of_40 o a1 a2 a3 o a2 a3 (-1 : Int32) S Q))))))
theorem nf_X5_of : hp_nf yX5_of 3 = true := by decide +kernel
set_option maxHeartbeats 4000000 in
theorem m_X5_of {l : Launch} {B : Nat} {D : va_G} {s0 : State} {b0 : Nat} (G : hp_G l B D s0 b0) (o : Nat) (a1 : Int32) (a2 : Int32) (a3 : Int32) (Si : hp_St) (Q : Int32 → Prop) (hc0 : st_C Si o = 5) (h : wp_X5_of o a1 a2 a3 Si Q) : hp_M l B D s0 yX5_of cX5_of 4 (some .int) 3 192 0 0 [hp_v B o, .int a1, .int a2, .int a3] Si (hp_Qi B D s0 (fun r S' => S' = Si ∧ Q r)) := by
  refine hp_start G (by decide +kernel) rfl rfl (lv := [(0, hp_v B o), (1, .int a1), (2, .int a2), (3, .int a3)]) (by simp [lg_sl, hp_vc, hp_ci, hp_cj]) (by simp [lv_args, hp_vc, hp_ci, hp_cj]) ?_
  intro p e s m args below meth c E ls hl hR
  generalize hH : s.heap = H at hR ⊢
  generalize hLo : ([] : List Loc) = locs at hR ⊢
  have b43 : ∀ (t0 : Int32) (H : Heap) (locs : List Loc) (ls : Array Slot), wb_X5_of_43 o a1 a2 a3 t0 Si Q → lv_has ls 4 [] → hp_S B D s0 Si H locs → W p l e ({ frames := 3, cells := 0, slots := 0, locals := 192 } : Room) s m args below meth c H locs 0 0 (MQ below (hp_Qi B D s0 (fun r S' => S' = Si ∧ Q r)) args s 0 0 (fun q => B < q)) (F0 m 43 ls [.int t0]) := by
    intro t0 H locs ls h hl hR
    unfold wb_X5_of_43 at h
    exact hp_iret E hR ⟨rfl, h⟩ (Nat.le_of_ble_eq_true rfl) (Nat.le_of_ble_eq_true rfl) dX5_of_43
  have b40 : ∀ (t0 : Nat) (t1 : Int32) (t2 : Int32) (t3 : Int32) (H : Heap) (locs : List Loc) (ls : Array Slot), wb_X5_of_40 o a1 a2 a3 t0 t1 t2 t3 Si Q → lv_has ls 4 [] → hp_S B D s0 Si H locs → W p l e ({ frames := 3, cells := 0, slots := 0, locals := 192 } : Room) s m args below meth c H locs 0 0 (MQ below (hp_Qi B D s0 (fun r S' => S' = Si ∧ Q r)) args s 0 0 (fun q => B < q)) (F0 m 40 ls [.int t3, .int t2, .int t1, hp_v B t0]) := by
    intro t0 t1 t2 t3 H locs ls h hl hR
    unfold wb_X5_of_40 at h
    obtain ⟨hc4001, h⟩ := h
    refine hp_fi (hp_rV E hR hl (m_X5_live G _ _ _ _ _ _ hc4001 h) hc4001 (ci := 4) rfl rfl q1076 q1077 q1078 q80 q1079 nf_X5_live ⟨Nat.le_of_ble_eq_true rfl, Nat.le_of_ble_eq_true rfl⟩ (rest := []) rfl (Nat.le_of_ble_eq_true rfl) dX5_of_40 ⟨Nat.le_of_ble_eq_true rfl, Nat.le_of_ble_eq_true rfl⟩) hR (rfl : 40 + 3 = 43) (fun z4002 Sx H locs hq hR => ?_)
    obtain ⟨hSx, h⟩ := hq
    rw [hSx] at hR
    exact b43 _ _ _ _ h hl hR
  unfold wp_X5_of at h
  refine hp_iload_n E hl 1 rfl 1 rfl dX5_of_0 (rfl : 0 + 1 = 1) ?_
  refine hp_if_ne E dX5_of_1 (rfl : 1 + 3 = 4) (tgt := 18) (by decide) (fun hb => ?_) (fun hb => ?_)
  · have h := h.1 hb
    refine hp_aload_n E hl 0 rfl 0 rfl dX5_of_4 (rfl : 4 + 1 = 5) ?_
    refine hp_getR E hR in_X5 hc0 rfl 2 (Nat.le_of_ble_eq_true rfl) rfl q262 (fun _ h => h) dX5_of_5 (rfl : 5 + 3 = 8) ?_
    obtain ⟨hc1, h⟩ := h
    refine hp_getRN E hR in_X1 hc1 rfl 11 (Nat.le_of_ble_eq_true rfl) rfl q332 (fun _ h => h) dX5_of_8 (rfl : 8 + 3 = 11) ?_
    refine hp_iload_n E hl 2 rfl 2 rfl dX5_of_11 (rfl : 11 + 1 = 12) ?_
    obtain ⟨hc2, h⟩ := h
    obtain ⟨hi3, h⟩ := h
    refine hp_aald E hR (Or.inr (Or.inl hc2)) hi3 dX5_of_12 (rfl : 12 + 1 = 13) ?_
    refine hp_iload_n E hl 3 rfl 3 rfl dX5_of_13 (rfl : 13 + 1 = 14) ?_
    obtain ⟨hc4, h⟩ := h
    obtain ⟨hi5, h⟩ := h
    refine hp_iald E hR hc4 hi5 dX5_of_14 (rfl : 14 + 1 = 15) ?_
    refine hp_goto E (tgt := 43) dX5_of_15 (by decide) ?_
    exact b43 _ _ _ _ h (lv_sub hl [] rfl) hR
  · have h := h.2 hb
    refine hp_aload_n E hl 0 rfl 0 rfl dX5_of_18 (rfl : 18 + 1 = 19) ?_
    refine hp_iload_n E hl 2 rfl 2 rfl dX5_of_19 (rfl : 19 + 1 = 20) ?_
    refine hp_iload_n E hl 3 rfl 3 rfl dX5_of_20 (rfl : 20 + 1 = 21) ?_
    refine hp_iload_n E hl 1 rfl 1 rfl dX5_of_21 (rfl : 21 + 1 = 22) ?_
    refine hp_iconst E (1 : Int32) (by decide) dX5_of_22 (rfl : 22 + 1 = 23) ?_
    refine hp_icmp_ne E dX5_of_23 (rfl : 23 + 3 = 26) (tgt := 30) (by decide) (fun hb => ?_) (fun hb => ?_)
    · have h := h.1 hb
      refine hp_iconst E (0 : Int32) (by decide) dX5_of_26 (rfl : 26 + 1 = 27) ?_
      refine hp_goto E (tgt := 40) dX5_of_27 (by decide) ?_
      exact b40 _ _ _ _ _ _ _ h (lv_sub hl [] rfl) hR
    · have h := h.2 hb
      refine hp_iload_n E hl 1 rfl 1 rfl dX5_of_30 (rfl : 30 + 1 = 31) ?_
      refine hp_iconst E (2 : Int32) (by decide) dX5_of_31 (rfl : 31 + 1 = 32) ?_
      refine hp_icmp_ne E dX5_of_32 (rfl : 32 + 3 = 35) (tgt := 39) (by decide) (fun hb => ?_) (fun hb => ?_)
      · have h := h.1 hb
        refine hp_iconst E (1 : Int32) (by decide) dX5_of_35 (rfl : 35 + 1 = 36) ?_
        refine hp_goto E (tgt := 40) dX5_of_36 (by decide) ?_
        exact b40 _ _ _ _ _ _ _ h (lv_sub hl [] rfl) hR
      · have h := h.2 hb
        refine hp_iconst E (-1 : Int32) (by decide) dX5_of_39 (rfl : 39 + 1 = 40) ?_
        exact b40 _ _ _ _ _ _ _ h (lv_sub hl [] rfl) hR
def wb_X1_own_36 (o : Nat) (a1 : Int32) (a2 : Int32) (a3 : Int32) (a4 : Int32) (S : hp_St) (Q : Int32 → hp_St → Prop) : Prop := Q (-1 : Int32) S
def wb_X1_own_105 (o : Nat) (a1 : Int32) (a2 : Int32) (a3 : Int32) (a4 : Int32) (t0 : Int32) (S : hp_St) (Q : Int32 → hp_St → Prop) : Prop := Q t0 S
def wp_X1_own (o : Nat) (a1 : Int32) (a2 : Int32) (a3 : Int32) (a4 : Int32) (S : hp_St) (Q : Int32 → hp_St → Prop) : Prop := wp_X1_in a1 (0 : Int32) (3 : Int32) S (fun z1 => (((z1 = 0) → wb_X1_own_36 o a1 a2 a3 a4 S Q) ∧ ((¬ (z1 = 0)) → wp_X1_in a2 (0 : Int32) (9 : Int32) S (fun z2 => (((z2 = 0) → wb_X1_own_36 o a1 a2 a3 a4 S Q) ∧ ((¬ (z2 = 0)) → wp_X1_isHalf a3 S (fun z3 => (((z3 = 0) → wb_X1_own_36 o a1 a2 a3 a4 S Q) ∧ ((¬ (z3 = 0)) → wp_X1_in a4 (0 : Int32) (4 : Int32) S (fun z4 => (((z4 = 0) → wb_X1_own_36 o a1 a2 a3 a4 S Q) ∧ ((¬ (z4 = 0)) → (st_C S (st_R S o 13) = 4) ∧ wp_X4_know (st_R S o 13) a3 S (fun z6 S7 => hp_mono S S7 → (st_C S7 (st_R S o 14) = 5) ∧ wp_X5_count (st_R S o 14) z6 S7 (fun S10 => hp_mono S7 S10 → (((a4 = 0) → (st_C S10 (st_R S10 o 14) = 5) ∧ (st_C S10 (st_R S10 (st_R S10 o 14) 0) = 55) ∧ (vp_in a1 (st_L S10 (st_R S10 (st_R S10 o 14) 0))) ∧ (st_C S10 (st_R S10 (st_R S10 (st_R S10 o 14) 0) a1.toNatClampNeg) = 50) ∧ (vp_in a2 (st_L S10 (st_R S10 (st_R S10 (st_R S10 o 14) 0) a1.toNatClampNeg))) ∧ wb_X1_own_105 o a1 a2 a3 a4 (st_I S10 (st_R S10 (st_R S10 (st_R S10 o 14) 0) a1.toNatClampNeg) a2.toNatClampNeg) S10 Q) ∧ ((¬ (a4 = 0)) → (((a4 = (1 : Int32)) → (st_C S10 (st_R S10 o 14) = 5) ∧ (st_C S10 (st_R S10 (st_R S10 o 14) 1) = 55) ∧ (vp_in a1 (st_L S10 (st_R S10 (st_R S10 o 14) 1))) ∧ (st_C S10 (st_R S10 (st_R S10 (st_R S10 o 14) 1) a1.toNatClampNeg) = 50) ∧ (vp_in a2 (st_L S10 (st_R S10 (st_R S10 (st_R S10 o 14) 1) a1.toNatClampNeg))) ∧ wb_X1_own_105 o a1 a2 a3 a4 (st_I S10 (st_R S10 (st_R S10 (st_R S10 o 14) 1) a1.toNatClampNeg) a2.toNatClampNeg) S10 Q) ∧ ((¬ (a4 = (1 : Int32))) → (st_C S10 (st_R S10 o 14) = 5) ∧ wp_X5_of (st_R S10 o 14) (a4 - (1 : Int32)) a1 a2 S10 (fun z23 => wb_X1_own_105 o a1 a2 a3 a4 z23 S10 Q)))))))))))))))))))
theorem nf_X1_own : hp_nf yX1_own 4 = true := by decide +kernel
set_option maxHeartbeats 4000000 in
theorem m_X1_own {l : Launch} {B : Nat} {D : va_G} {s0 : State} {b0 : Nat} (G : hp_G l B D s0 b0) (o : Nat) (a1 : Int32) (a2 : Int32) (a3 : Int32) (a4 : Int32) (Si : hp_St) (Q : Int32 → hp_St → Prop) (hc0 : st_C Si o = 1) (h : wp_X1_own o a1 a2 a3 a4 Si Q) : hp_M l B D s0 yX1_own cX1_own 5 (some .int) 7 448 0 0 [hp_v B o, .int a1, .int a2, .int a3, .int a4] Si (hp_Qi B D s0 (fun r S' => hp_mono Si S' ∧ Q r S')) := by
  refine hp_start G (by decide +kernel) rfl rfl (lv := [(0, hp_v B o), (1, .int a1), (2, .int a2), (3, .int a3), (4, .int a4)]) (by simp [lg_sl, hp_vc, hp_ci, hp_cj]) (by simp [lv_args, hp_vc, hp_ci, hp_cj]) ?_
  intro p e s m args below meth c E ls hl hR
  have hm : hp_mono Si Si := hp_mono.rf
  generalize hH : s.heap = H at hR ⊢
  generalize hLo : ([] : List Loc) = locs at hR ⊢
  have b36 : ∀ (S : hp_St) (H : Heap) (locs : List Loc) (ls : Array Slot), wb_X1_own_36 o a1 a2 a3 a4 S Q → lv_has ls 5 [] → hp_S B D s0 S H locs → hp_mono Si S → W p l e ({ frames := 7, cells := 0, slots := 0, locals := 448 } : Room) s m args below meth c H locs 0 0 (MQ below (hp_Qi B D s0 (fun r S' => hp_mono Si S' ∧ Q r S')) args s 0 0 (fun q => B < q)) (F0 m 36 ls []) := by
    intro S H locs ls h hl hR hm
    unfold wb_X1_own_36 at h
    refine hp_iconst E (-1 : Int32) (by decide) dX1_own_36 (rfl : 36 + 1 = 37) ?_
    exact hp_iret E hR ⟨hm, h⟩ (Nat.le_of_ble_eq_true rfl) (Nat.le_of_ble_eq_true rfl) dX1_own_37
  have b105 : ∀ (t0 : Int32) (S : hp_St) (H : Heap) (locs : List Loc) (ls : Array Slot), wb_X1_own_105 o a1 a2 a3 a4 t0 S Q → lv_has ls 5 [] → hp_S B D s0 S H locs → hp_mono Si S → W p l e ({ frames := 7, cells := 0, slots := 0, locals := 448 } : Room) s m args below meth c H locs 0 0 (MQ below (hp_Qi B D s0 (fun r S' => hp_mono Si S' ∧ Q r S')) args s 0 0 (fun q => B < q)) (F0 m 105 ls [.int t0]) := by
    intro t0 S H locs ls h hl hR hm
    unfold wb_X1_own_105 at h
    exact hp_iret E hR ⟨hm, h⟩ (Nat.le_of_ble_eq_true rfl) (Nat.le_of_ble_eq_true rfl) dX1_own_105
  unfold wp_X1_own at h
  refine hp_iload_n E hl 1 rfl 1 rfl dX1_own_0 (rfl : 0 + 1 = 1) ?_
  refine hp_iconst E (0 : Int32) (by decide) dX1_own_1 (rfl : 1 + 1 = 2) ?_
  refine hp_iconst E (3 : Int32) (by decide) dX1_own_2 (rfl : 2 + 1 = 3) ?_
  refine hp_fi (hp_rS E hR hl (m_X1_in G _ _ _ _ _ h) q394 q395 q73 q396 nf_X1_in ⟨Nat.le_of_ble_eq_true rfl, Nat.le_of_ble_eq_true rfl⟩ (rest := []) rfl (Nat.le_of_ble_eq_true rfl) dX1_own_3 ⟨Nat.le_of_ble_eq_true rfl, Nat.le_of_ble_eq_true rfl⟩) hR (rfl : 3 + 3 = 6) (fun z1 Sx H locs hq hR => ?_)
  obtain ⟨hSx, h⟩ := hq
  rw [hSx] at hR
  refine hp_if_eq E dX1_own_6 (rfl : 6 + 3 = 9) (tgt := 36) (by decide) (fun hb => ?_) (fun hb => ?_)
  · have h := h.1 hb
    exact b36 _ _ _ _ h (lv_sub hl [] rfl) hR hm
  · have h := h.2 hb
    refine hp_iload_n E hl 2 rfl 2 rfl dX1_own_9 (rfl : 9 + 1 = 10) ?_
    refine hp_iconst E (0 : Int32) (by decide) dX1_own_10 (rfl : 10 + 1 = 11) ?_
    refine hp_bipush E (9 : Int32) (by decide) dX1_own_11 (rfl : 11 + 2 = 13) ?_
    refine hp_fi (hp_rS E hR hl (m_X1_in G _ _ _ _ _ h) q394 q395 q73 q396 nf_X1_in ⟨Nat.le_of_ble_eq_true rfl, Nat.le_of_ble_eq_true rfl⟩ (rest := []) rfl (Nat.le_of_ble_eq_true rfl) dX1_own_13 ⟨Nat.le_of_ble_eq_true rfl, Nat.le_of_ble_eq_true rfl⟩) hR (rfl : 13 + 3 = 16) (fun z2 Sx H locs hq hR => ?_)
    obtain ⟨hSx, h⟩ := hq
    rw [hSx] at hR
    refine hp_if_eq E dX1_own_16 (rfl : 16 + 3 = 19) (tgt := 36) (by decide) (fun hb => ?_) (fun hb => ?_)
    · have h := h.1 hb
      exact b36 _ _ _ _ h (lv_sub hl [] rfl) hR hm
    · have h := h.2 hb
      refine hp_iload_n E hl 3 rfl 3 rfl dX1_own_19 (rfl : 19 + 1 = 20) ?_
      refine hp_fi (hp_rS E hR hl (m_X1_isHalf G _ _ _ h) q879 q880 q73 q881 nf_X1_isHalf ⟨Nat.le_of_ble_eq_true rfl, Nat.le_of_ble_eq_true rfl⟩ (rest := []) rfl (Nat.le_of_ble_eq_true rfl) dX1_own_20 ⟨Nat.le_of_ble_eq_true rfl, Nat.le_of_ble_eq_true rfl⟩) hR (rfl : 20 + 3 = 23) (fun z3 Sx H locs hq hR => ?_)
      obtain ⟨hSx, h⟩ := hq
      rw [hSx] at hR
      refine hp_if_eq E dX1_own_23 (rfl : 23 + 3 = 26) (tgt := 36) (by decide) (fun hb => ?_) (fun hb => ?_)
      · have h := h.1 hb
        exact b36 _ _ _ _ h (lv_sub hl [] rfl) hR hm
      · have h := h.2 hb
        refine hp_iload E hl 4 rfl dX1_own_26 (rfl : 26 + 2 = 28) ?_
        refine hp_iconst E (0 : Int32) (by decide) dX1_own_28 (rfl : 28 + 1 = 29) ?_
        refine hp_iconst E (4 : Int32) (by decide) dX1_own_29 (rfl : 29 + 1 = 30) ?_
        refine hp_fi (hp_rS E hR hl (m_X1_in G _ _ _ _ _ h) q394 q395 q73 q396 nf_X1_in ⟨Nat.le_of_ble_eq_true rfl, Nat.le_of_ble_eq_true rfl⟩ (rest := []) rfl (Nat.le_of_ble_eq_true rfl) dX1_own_30 ⟨Nat.le_of_ble_eq_true rfl, Nat.le_of_ble_eq_true rfl⟩) hR (rfl : 30 + 3 = 33) (fun z4 Sx H locs hq hR => ?_)
        obtain ⟨hSx, h⟩ := hq
        rw [hSx] at hR
        refine hp_if_ne E dX1_own_33 (rfl : 33 + 3 = 36) (tgt := 38) (by decide) (fun hb => ?_) (fun hb => ?_)
        · have h := h.1 hb
          exact b36 _ _ _ _ h (lv_sub hl [] rfl) hR hm
        · have h := h.2 hb
          refine hp_aload_n E hl 0 rfl 0 rfl dX1_own_38 (rfl : 38 + 1 = 39) ?_
          refine hp_getR E hR in_X1 hc0 rfl 14 (Nat.le_of_ble_eq_true rfl) rfl q337 (fun _ h => h) dX1_own_39 (rfl : 39 + 3 = 42) ?_
          refine hp_aload_n E hl 0 rfl 0 rfl dX1_own_42 (rfl : 42 + 1 = 43) ?_
          refine hp_getR E hR in_X1 hc0 rfl 13 (Nat.le_of_ble_eq_true rfl) rfl q336 (fun _ h => h) dX1_own_43 (rfl : 43 + 3 = 46) ?_
          refine hp_iload_n E hl 3 rfl 3 rfl dX1_own_46 (rfl : 46 + 1 = 47) ?_
          obtain ⟨hc5, h⟩ := h
          refine hp_fa (hp_rV E hR hl (m_X4_know G _ _ _ _ hc5 h) hc5 (ci := 3) rfl rfl q946 q947 q948 q79 q949 nf_X4_know ⟨Nat.le_of_ble_eq_true rfl, Nat.le_of_ble_eq_true rfl⟩ (rest := [hp_v B (st_R Si o 14)]) rfl (Nat.le_of_ble_eq_true rfl) dX1_own_47 ⟨Nat.le_of_ble_eq_true rfl, Nat.le_of_ble_eq_true rfl⟩) hR (rfl : 47 + 3 = 50) (fun z6 S7 H locs hq hR => ?_)
          obtain ⟨hm8, h⟩ := hq
          have h := h hm8
          have hm := hp_mono.tr hm hm8
          obtain ⟨hc9, h⟩ := h
          refine hp_fv (hp_rV E hR hl (m_X5_count G _ _ _ _ hc9 h) hc9 (ci := 4) rfl rfl q1057 q1058 q1059 q80 q1060 nf_X5_count ⟨Nat.le_of_ble_eq_true rfl, Nat.le_of_ble_eq_true rfl⟩ (rest := []) rfl (Nat.le_of_ble_eq_true rfl) dX1_own_50 ⟨Nat.le_of_ble_eq_true rfl, Nat.le_of_ble_eq_true rfl⟩) hR (rfl : 50 + 3 = 53) (fun S10 H locs hq hR => ?_)
          obtain ⟨hm11, h⟩ := hq
          have h := h hm11
          have hm := hp_mono.tr hm hm11
          refine hp_iload E hl 4 rfl dX1_own_53 (rfl : 53 + 2 = 55) ?_
          refine hp_if_ne E dX1_own_55 (rfl : 55 + 3 = 58) (tgt := 72) (by decide) (fun hb => ?_) (fun hb => ?_)
          · have h := h.1 hb
            refine hp_aload_n E hl 0 rfl 0 rfl dX1_own_58 (rfl : 58 + 1 = 59) ?_
            refine hp_getR E hR in_X1 (hp_mono.c hm hc0) rfl 14 (Nat.le_of_ble_eq_true rfl) rfl q337 (fun _ h => h) dX1_own_59 (rfl : 59 + 3 = 62) ?_
            obtain ⟨hc12, h⟩ := h
            refine hp_getRN E hR in_X5 hc12 rfl 0 (Nat.le_of_ble_eq_true rfl) rfl q259 (fun _ h => h) dX1_own_62 (rfl : 62 + 3 = 65) ?_
            refine hp_iload_n E hl 1 rfl 1 rfl dX1_own_65 (rfl : 65 + 1 = 66) ?_
            obtain ⟨hc13, h⟩ := h
            obtain ⟨hi14, h⟩ := h
            refine hp_aald E hR (Or.inr (Or.inl hc13)) hi14 dX1_own_66 (rfl : 66 + 1 = 67) ?_
            refine hp_iload_n E hl 2 rfl 2 rfl dX1_own_67 (rfl : 67 + 1 = 68) ?_
            obtain ⟨hc15, h⟩ := h
            obtain ⟨hi16, h⟩ := h
            refine hp_iald E hR hc15 hi16 dX1_own_68 (rfl : 68 + 1 = 69) ?_
            refine hp_goto E (tgt := 105) dX1_own_69 (by decide) ?_
            exact b105 _ _ _ _ _ h (lv_sub hl [] rfl) hR hm
          · have h := h.2 hb
            refine hp_iload E hl 4 rfl dX1_own_72 (rfl : 72 + 2 = 74) ?_
            refine hp_iconst E (1 : Int32) (by decide) dX1_own_74 (rfl : 74 + 1 = 75) ?_
            refine hp_icmp_ne E dX1_own_75 (rfl : 75 + 3 = 78) (tgt := 92) (by decide) (fun hb => ?_) (fun hb => ?_)
            · have h := h.1 hb
              refine hp_aload_n E hl 0 rfl 0 rfl dX1_own_78 (rfl : 78 + 1 = 79) ?_
              refine hp_getR E hR in_X1 (hp_mono.c hm hc0) rfl 14 (Nat.le_of_ble_eq_true rfl) rfl q337 (fun _ h => h) dX1_own_79 (rfl : 79 + 3 = 82) ?_
              obtain ⟨hc17, h⟩ := h
              refine hp_getRN E hR in_X5 hc17 rfl 1 (Nat.le_of_ble_eq_true rfl) rfl q261 (fun _ h => h) dX1_own_82 (rfl : 82 + 3 = 85) ?_
              refine hp_iload_n E hl 1 rfl 1 rfl dX1_own_85 (rfl : 85 + 1 = 86) ?_
              obtain ⟨hc18, h⟩ := h
              obtain ⟨hi19, h⟩ := h
              refine hp_aald E hR (Or.inr (Or.inl hc18)) hi19 dX1_own_86 (rfl : 86 + 1 = 87) ?_
              refine hp_iload_n E hl 2 rfl 2 rfl dX1_own_87 (rfl : 87 + 1 = 88) ?_
              obtain ⟨hc20, h⟩ := h
              obtain ⟨hi21, h⟩ := h
              refine hp_iald E hR hc20 hi21 dX1_own_88 (rfl : 88 + 1 = 89) ?_
              refine hp_goto E (tgt := 105) dX1_own_89 (by decide) ?_
              exact b105 _ _ _ _ _ h (lv_sub hl [] rfl) hR hm
            · have h := h.2 hb
              refine hp_aload_n E hl 0 rfl 0 rfl dX1_own_92 (rfl : 92 + 1 = 93) ?_
              refine hp_getR E hR in_X1 (hp_mono.c hm hc0) rfl 14 (Nat.le_of_ble_eq_true rfl) rfl q337 (fun _ h => h) dX1_own_93 (rfl : 93 + 3 = 96) ?_
              refine hp_iload E hl 4 rfl dX1_own_96 (rfl : 96 + 2 = 98) ?_
              refine hp_iconst E (1 : Int32) (by decide) dX1_own_98 (rfl : 98 + 1 = 99) ?_
              refine hp_isub E dX1_own_99 (rfl : 99 + 1 = 100) ?_
              refine hp_iload_n E hl 1 rfl 1 rfl dX1_own_100 (rfl : 100 + 1 = 101) ?_
              refine hp_iload_n E hl 2 rfl 2 rfl dX1_own_101 (rfl : 101 + 1 = 102) ?_
              obtain ⟨hc22, h⟩ := h
              refine hp_fi (hp_rV E hR hl (m_X5_of G _ _ _ _ _ _ hc22 h) hc22 (ci := 4) rfl rfl q1072 q1073 q1074 q80 q1075 nf_X5_of ⟨Nat.le_of_ble_eq_true rfl, Nat.le_of_ble_eq_true rfl⟩ (rest := []) rfl (Nat.le_of_ble_eq_true rfl) dX1_own_102 ⟨Nat.le_of_ble_eq_true rfl, Nat.le_of_ble_eq_true rfl⟩) hR (rfl : 102 + 3 = 105) (fun z23 Sx H locs hq hR => ?_)
              obtain ⟨hSx, h⟩ := hq
              rw [hSx] at hR
              exact b105 _ _ _ _ _ h (lv_sub hl [] rfl) hR hm
def wp_X1_live (o : Nat) (a1 : Int32) (a2 : Nat) (a3 : Int32) (S : hp_St) (Q : Int32 → Prop) : Prop := (st_C S a2 = 10) ∧ wp_X1_group a3 S (fun z2 => (st_C S (st_R S o 14) = 5) ∧ wp_X5_of (st_R S o 14) a1 (st_I S a2 2) z2 S (fun z4 => Q z4))
theorem nf_X1_live : hp_nf yX1_live 3 = true := by decide +kernel
set_option maxHeartbeats 4000000 in
theorem m_X1_live {l : Launch} {B : Nat} {D : va_G} {s0 : State} {b0 : Nat} (G : hp_G l B D s0 b0) (o : Nat) (a1 : Int32) (a2 : Nat) (a3 : Int32) (Si : hp_St) (Q : Int32 → Prop) (hc0 : st_C Si o = 1) (h : wp_X1_live o a1 a2 a3 Si Q) : hp_M l B D s0 yX1_live cX1_live 4 (some .int) 4 256 0 0 [hp_v B o, .int a1, hp_v B a2, .int a3] Si (hp_Qi B D s0 (fun r S' => S' = Si ∧ Q r)) := by
  refine hp_start G (by decide +kernel) rfl rfl (lv := [(0, hp_v B o), (1, .int a1), (2, hp_v B a2), (3, .int a3)]) (by simp [lg_sl, hp_vc, hp_ci, hp_cj]) (by simp [lv_args, hp_vc, hp_ci, hp_cj]) ?_
  intro p e s m args below meth c E ls hl hR
  unfold wp_X1_live at h
  refine hp_aload_n E hl 0 rfl 0 rfl dX1_live_0 (rfl : 0 + 1 = 1) ?_
  refine hp_getR E hR in_X1 hc0 rfl 14 (Nat.le_of_ble_eq_true rfl) rfl q337 (fun _ h => h) dX1_live_1 (rfl : 1 + 3 = 4) ?_
  refine hp_iload_n E hl 1 rfl 1 rfl dX1_live_4 (rfl : 4 + 1 = 5) ?_
  refine hp_aload_n E hl 2 rfl 2 rfl dX1_live_5 (rfl : 5 + 1 = 6) ?_
  obtain ⟨hc1, h⟩ := h
  refine hp_getIN E hR in_X10 hc1 rfl 2 (Nat.le_of_ble_eq_true rfl) rfl q710 (fun _ h => h) dX1_live_6 (rfl : 6 + 3 = 9) ?_
  refine hp_iload_n E hl 3 rfl 3 rfl dX1_live_9 (rfl : 9 + 1 = 10) ?_
  refine hp_fi (hp_rS E hR hl (m_X1_group G _ _ _ h) q1098 q1069 q73 q1070 nf_X1_group ⟨Nat.le_of_ble_eq_true rfl, Nat.le_of_ble_eq_true rfl⟩ (rest := [.int (st_I Si a2 2), .int a1, hp_v B (st_R Si o 14)]) rfl (Nat.le_of_ble_eq_true rfl) dX1_live_10 ⟨Nat.le_of_ble_eq_true rfl, Nat.le_of_ble_eq_true rfl⟩) hR (rfl : 10 + 3 = 13) (fun z2 Sx H locs hq hR => ?_)
  obtain ⟨hSx, h⟩ := hq
  rw [hSx] at hR
  obtain ⟨hc3, h⟩ := h
  refine hp_fi (hp_rV E hR hl (m_X5_of G _ _ _ _ _ _ hc3 h) hc3 (ci := 4) rfl rfl q1072 q1073 q1074 q80 q1075 nf_X5_of ⟨Nat.le_of_ble_eq_true rfl, Nat.le_of_ble_eq_true rfl⟩ (rest := []) rfl (Nat.le_of_ble_eq_true rfl) dX1_live_13 ⟨Nat.le_of_ble_eq_true rfl, Nat.le_of_ble_eq_true rfl⟩) hR (rfl : 13 + 3 = 16) (fun z4 Sx H locs hq hR => ?_)
  obtain ⟨hSx, h⟩ := hq
  rw [hSx] at hR
  exact hp_iret E hR ⟨rfl, h⟩ (Nat.le_of_ble_eq_true rfl) (Nat.le_of_ble_eq_true rfl) dX1_live_16
def wp_X1_discounted (o : Nat) (a1 : Int32) (a2 : Int32) (S : hp_St) (Q : Int32 → Prop) : Prop := (st_C S (st_R S o 7) = 3) ∧ (¬ ((st_I S (st_R S o 7) 3) + (1 : Int32)) = 0) ∧ Q ((((((1000 : Int32) + a1) * a2) / (1000 : Int32)) * (st_I S (st_R S o 7) 3)) / ((st_I S (st_R S o 7) 3) + (1 : Int32)))
theorem nf_X1_discounted : hp_nf yX1_discounted 2 = true := by decide +kernel
set_option maxHeartbeats 4000000 in
theorem m_X1_discounted {l : Launch} {B : Nat} {D : va_G} {s0 : State} {b0 : Nat} (G : hp_G l B D s0 b0) (o : Nat) (a1 : Int32) (a2 : Int32) (Si : hp_St) (Q : Int32 → Prop) (hc0 : st_C Si o = 1) (h : wp_X1_discounted o a1 a2 Si Q) : hp_M l B D s0 yX1_discounted cX1_discounted 3 (some .int) 2 128 0 0 [hp_v B o, .int a1, .int a2] Si (hp_Qi B D s0 (fun r S' => S' = Si ∧ Q r)) := by
  refine hp_start G (by decide +kernel) rfl rfl (lv := [(0, hp_v B o), (1, .int a1), (2, .int a2)]) (by simp [lg_sl, hp_vc, hp_ci, hp_cj]) (by simp [lv_args, hp_vc, hp_ci, hp_cj]) ?_
  intro p e s m args below meth c E ls hl hR
  unfold wp_X1_discounted at h
  refine hp_sipush E (1000 : Int32) (by decide) dX1_discounted_0 (rfl : 0 + 3 = 3) ?_
  refine hp_iload_n E hl 1 rfl 1 rfl dX1_discounted_3 (rfl : 3 + 1 = 4) ?_
  refine hp_iadd E dX1_discounted_4 (rfl : 4 + 1 = 5) ?_
  refine hp_iload_n E hl 2 rfl 2 rfl dX1_discounted_5 (rfl : 5 + 1 = 6) ?_
  refine hp_imul E dX1_discounted_6 (rfl : 6 + 1 = 7) ?_
  refine hp_sipush E (1000 : Int32) (by decide) dX1_discounted_7 (rfl : 7 + 3 = 10) ?_
  refine hp_idiv E (by decide) dX1_discounted_10 (rfl : 10 + 1 = 11) ?_
  refine hp_aload_n E hl 0 rfl 0 rfl dX1_discounted_11 (rfl : 11 + 1 = 12) ?_
  refine hp_getR E hR in_X1 hc0 rfl 7 (Nat.le_of_ble_eq_true rfl) rfl q324 (fun _ h => h) dX1_discounted_12 (rfl : 12 + 3 = 15) ?_
  obtain ⟨hc1, h⟩ := h
  refine hp_getIN E hR in_X3 hc1 rfl 3 (Nat.le_of_ble_eq_true rfl) rfl q193 (fun _ h => h) dX1_discounted_15 (rfl : 15 + 3 = 18) ?_
  refine hp_imul E dX1_discounted_18 (rfl : 18 + 1 = 19) ?_
  refine hp_aload_n E hl 0 rfl 0 rfl dX1_discounted_19 (rfl : 19 + 1 = 20) ?_
  refine hp_getR E hR in_X1 hc0 rfl 7 (Nat.le_of_ble_eq_true rfl) rfl q324 (fun _ h => h) dX1_discounted_20 (rfl : 20 + 3 = 23) ?_
  refine hp_getIN E hR in_X3 hc1 rfl 3 (Nat.le_of_ble_eq_true rfl) rfl q193 (fun _ h => h) dX1_discounted_23 (rfl : 23 + 3 = 26) ?_
  refine hp_iconst E (1 : Int32) (by decide) dX1_discounted_26 (rfl : 26 + 1 = 27) ?_
  refine hp_iadd E dX1_discounted_27 (rfl : 27 + 1 = 28) ?_
  obtain ⟨hz2, h⟩ := h
  refine hp_idiv E hz2 dX1_discounted_28 (rfl : 28 + 1 = 29) ?_
  exact hp_iret E hR ⟨rfl, h⟩ (Nat.le_of_ble_eq_true rfl) (Nat.le_of_ble_eq_true rfl) dX1_discounted_29
def wb_X1_worth_3_6 (o : Nat) (a1 : Int32) (a2 : Nat) (v3 : Int32) (v4 : Int32) (S : hp_St) (K6 : Int32 → Int32 → Prop) (Q : Int32 → Prop) : Prop := (st_C S a2 = 10) ∧ wp_X10_age a2 (st_I S o 4) S (fun z602 => (((v4 < z602) → Q v3) ∧ ((¬ (v4 < z602)) → wp_X1_live o a1 a2 v4 S (fun z603 => wp_X1_discounted o v3 z603 S (fun z604 => K6 z604 (v4 + (-1 : Int32)))))))
def wl_X1_worth_3_6 (o : Nat) (a1 : Int32) (a2 : Nat) (v3 : Int32) (v4 : Int32) (S : hp_St) (Q : Int32 → Prop) : Prop := ∃ (I : Int32 → Int32 → Prop) (μ : Int32 → Int32 → Nat), I v3 v4 ∧ ∀ (v3 : Int32) (v4 : Int32), I v3 v4 → wb_X1_worth_3_6 o a1 a2 v3 v4 S (fun v3' v4' => I v3' v4' ∧ μ v3' v4' < μ v3 v4) Q
def wp_X1_worth_3 (o : Nat) (a1 : Int32) (a2 : Nat) (S : hp_St) (Q : Int32 → Prop) : Prop := wl_X1_worth_3_6 o a1 a2 (0 : Int32) (99 : Int32) S Q
theorem nf_X1_worth_3 : hp_nf yX1_worth_3 2 = true := by decide +kernel
set_option maxHeartbeats 4000000 in
theorem m_X1_worth_3 {l : Launch} {B : Nat} {D : va_G} {s0 : State} {b0 : Nat} (G : hp_G l B D s0 b0) (o : Nat) (a1 : Int32) (a2 : Nat) (Si : hp_St) (Q : Int32 → Prop) (hc0 : st_C Si o = 1) (h : wp_X1_worth_3 o a1 a2 Si Q) : hp_M l B D s0 yX1_worth_3 cX1_worth_3 5 (some .int) 5 320 0 0 [hp_v B o, .int a1, hp_v B a2] Si (hp_Qi B D s0 (fun r S' => S' = Si ∧ Q r)) := by
  refine hp_start G (by decide +kernel) rfl rfl (lv := [(0, hp_v B o), (1, .int a1), (2, hp_v B a2)]) (by simp [lg_sl, hp_vc, hp_ci, hp_cj]) (by simp [lv_args, hp_vc, hp_ci, hp_cj]) ?_
  intro p e s m args below meth c E ls hl hR
  generalize hH : s.heap = H at hR ⊢
  generalize hLo : ([] : List Loc) = locs at hR ⊢
  have b6 : ∀ (v3 : Int32) (v4 : Int32) (H : Heap) (locs : List Loc) (ls : Array Slot), wl_X1_worth_3_6 o a1 a2 v3 v4 Si Q → lv_has ls 5 [(0, hp_v B o), (1, .int a1), (2, hp_v B a2), (3, .int v3), (4, .int v4)] → hp_S B D s0 Si H locs → W p l e ({ frames := 5, cells := 0, slots := 0, locals := 320 } : Room) s m args below meth c H locs 0 0 (MQ below (hp_Qi B D s0 (fun r S' => S' = Si ∧ Q r)) args s 0 0 (fun q => B < q)) (F0 m 6 ls []) := by
    intro v3 v4 H locs ls h hl hR
    obtain ⟨I6, μ6, hI, hst⟩ := h
    have key6 : ∀ (N : Nat) (v3 : Int32) (v4 : Int32) (H : Heap) (locs : List Loc) (ls : Array Slot), μ6 v3 v4 < N → I6 v3 v4 → lv_has ls 5 [(0, hp_v B o), (1, .int a1), (2, hp_v B a2), (3, .int v3), (4, .int v4)] → hp_S B D s0 Si H locs → W p l e ({ frames := 5, cells := 0, slots := 0, locals := 320 } : Room) s m args below meth c H locs 0 0 (MQ below (hp_Qi B D s0 (fun r S' => S' = Si ∧ Q r)) args s 0 0 (fun q => B < q)) (F0 m 6 ls []) := by
      intro N
      induction N with
      | zero =>
        intro v3 v4 H locs ls hN
        exact absurd hN (Nat.not_lt_zero _)
      | succ N ih6 =>
        intro v3 v4 H locs ls hN hI hl hR
        have h := hst v3 v4 hI
        obtain ⟨K6, hKe6⟩ : ∃ K : Int32 → Int32 → Prop, K = (fun v3' v4' => I6 v3' v4' ∧ μ6 v3' v4' < μ6 v3 v4) := ⟨_, rfl⟩
        rw [← hKe6] at h
        have hK6 : ∀ (v3' : Int32) (v4' : Int32) (H : Heap) (locs : List Loc) (ls : Array Slot), K6 v3' v4' → lv_has ls 5 [(0, hp_v B o), (1, .int a1), (2, hp_v B a2), (3, .int (v3')), (4, .int (v4'))] → hp_S B D s0 Si H locs → W p l e ({ frames := 5, cells := 0, slots := 0, locals := 320 } : Room) s m args below meth c H locs 0 0 (MQ below (hp_Qi B D s0 (fun r S' => S' = Si ∧ Q r)) args s 0 0 (fun q => B < q)) (F0 m 6 ls []) := by
          intro v3' v4' H locs ls hI hl hR
          rw [hKe6] at hI
          exact ih6 v3' v4' H locs ls (Nat.lt_of_lt_of_le hI.2 (Nat.le_of_lt_succ hN)) hI.1 hl hR
        unfold wb_X1_worth_3_6 at h
        refine hp_iload E hl 4 rfl dX1_worth_3_6 (rfl : 6 + 2 = 8) ?_
        refine hp_aload_n E hl 2 rfl 2 rfl dX1_worth_3_8 (rfl : 8 + 1 = 9) ?_
        refine hp_aload_n E hl 0 rfl 0 rfl dX1_worth_3_9 (rfl : 9 + 1 = 10) ?_
        refine hp_getI E hR in_X1 hc0 rfl 4 (Nat.le_of_ble_eq_true rfl) rfl q320 (fun _ h => h) dX1_worth_3_10 (rfl : 10 + 3 = 13) ?_
        obtain ⟨hc601, h⟩ := h
        refine hp_fi (hp_rV E hR hl (m_X10_age G _ _ _ _ hc601 h) hc601 (ci := 9) rfl rfl q777 q755 q756 q95 q757 nf_X10_age ⟨Nat.le_of_ble_eq_true rfl, Nat.le_of_ble_eq_true rfl⟩ (rest := [.int v4]) rfl (Nat.le_of_ble_eq_true rfl) dX1_worth_3_13 ⟨Nat.le_of_ble_eq_true rfl, Nat.le_of_ble_eq_true rfl⟩) hR (rfl : 13 + 3 = 16) (fun z602 Sx H locs hq hR => ?_)
        obtain ⟨hSx, h⟩ := hq
        rw [hSx] at hR
        refine hp_icmp_lt E dX1_worth_3_16 (rfl : 16 + 3 = 19) (tgt := 39) (by decide) (fun hb => ?_) (fun hb => ?_)
        · have h := h.1 hb
          refine hp_iload_n E hl 3 rfl 3 rfl dX1_worth_3_39 (rfl : 39 + 1 = 40) ?_
          exact hp_iret E hR ⟨rfl, h⟩ (Nat.le_of_ble_eq_true rfl) (Nat.le_of_ble_eq_true rfl) dX1_worth_3_40
        · have h := h.2 hb
          refine hp_aload_n E hl 0 rfl 0 rfl dX1_worth_3_19 (rfl : 19 + 1 = 20) ?_
          refine hp_iload_n E hl 3 rfl 3 rfl dX1_worth_3_20 (rfl : 20 + 1 = 21) ?_
          refine hp_aload_n E hl 0 rfl 0 rfl dX1_worth_3_21 (rfl : 21 + 1 = 22) ?_
          refine hp_iload_n E hl 1 rfl 1 rfl dX1_worth_3_22 (rfl : 22 + 1 = 23) ?_
          refine hp_aload_n E hl 2 rfl 2 rfl dX1_worth_3_23 (rfl : 23 + 1 = 24) ?_
          refine hp_iload E hl 4 rfl dX1_worth_3_24 (rfl : 24 + 2 = 26) ?_
          refine hp_fi (hp_rV E hR hl (m_X1_live G _ _ _ _ _ _ hc0 h) hc0 (ci := 0) rfl rfl q1094 q1096 qs26 q73 q1097 nf_X1_live ⟨Nat.le_of_ble_eq_true rfl, Nat.le_of_ble_eq_true rfl⟩ (rest := [.int v3, hp_v B o]) rfl (Nat.le_of_ble_eq_true rfl) dX1_worth_3_26 ⟨Nat.le_of_ble_eq_true rfl, Nat.le_of_ble_eq_true rfl⟩) hR (rfl : 26 + 3 = 29) (fun z603 Sx H locs hq hR => ?_)
          obtain ⟨hSx, h⟩ := hq
          rw [hSx] at hR
          refine hp_fi (hp_rV E hR hl (m_X1_discounted G _ _ _ _ _ hc0 h) hc0 (ci := 0) rfl rfl q1099 q1101 qs27 q73 q1102 nf_X1_discounted ⟨Nat.le_of_ble_eq_true rfl, Nat.le_of_ble_eq_true rfl⟩ (rest := []) rfl (Nat.le_of_ble_eq_true rfl) dX1_worth_3_29 ⟨Nat.le_of_ble_eq_true rfl, Nat.le_of_ble_eq_true rfl⟩) hR (rfl : 29 + 3 = 32) (fun z604 Sx H locs hq hR => ?_)
          obtain ⟨hSx, h⟩ := hq
          rw [hSx] at hR
          refine hp_istore_n E hl 3 rfl (lv' := [(0, hp_v B o), (1, .int a1), (2, hp_v B a2), (4, .int v4)]) dX1_worth_3_32 (rfl : 32 + 1 = 33) (by decide) (by simp [hp_vc, hp_ci, hp_cj]) (fun ls hl => ?_)
          refine hp_iinc E hl (v4 + (-1 : Int32)) 4 (lv' := [(3, .int z604), (0, hp_v B o), (1, .int a1), (2, hp_v B a2)]) dX1_worth_3_33 (rfl : 33 + 3 = 36) rfl (by first | rfl | (congr 1)) (by decide) rfl (fun ls hl => ?_)
          refine hp_goto E (tgt := 6) dX1_worth_3_36 (by decide) ?_
          exact hK6 _ _ _ _ _ h (lv_sub hl [2, 3, 4, 1, 0] rfl) hR
    exact key6 (μ6 v3 v4 + 1) v3 v4 H locs ls (Nat.lt_succ_self _) hI hl hR
  unfold wp_X1_worth_3 at h
  refine hp_iconst E (0 : Int32) (by decide) dX1_worth_3_0 (rfl : 0 + 1 = 1) ?_
  refine hp_istore_n E hl 3 rfl (lv' := [(0, hp_v B o), (1, .int a1), (2, hp_v B a2)]) dX1_worth_3_1 (rfl : 1 + 1 = 2) (by decide) (by simp [hp_vc, hp_ci, hp_cj]) (fun ls hl => ?_)
  refine hp_bipush E (99 : Int32) (by decide) dX1_worth_3_2 (rfl : 2 + 2 = 4) ?_
  refine hp_istore E hl 4 (lv' := [(3, .int (0 : Int32)), (0, hp_v B o), (1, .int a1), (2, hp_v B a2)]) dX1_worth_3_4 (rfl : 4 + 2 = 6) (by decide) rfl (fun ls hl => ?_)
  exact b6 _ _ _ _ _ h (lv_sub hl [2, 3, 4, 1, 0] rfl) hR
def wb_X1_both_35 (o : Nat) (a1 : Int32) (a2 : Nat) (a3 : Nat) (v4 : Int32) (v5 : Int32) (v6 : Int32) (v7 : Int32) (S : hp_St) (K35 : Int32 → Int32 → Prop) (Q : Int32 → Prop) : Prop := (((v7 < 0) → Q v6) ∧ ((¬ (v7 < 0)) → wp_X1_live o a1 a2 (v4 + v7) S (fun z3501 => wp_X1_live o a1 a3 (v5 + v7) S (fun z3502 => wp_X1_discounted o v6 ((z3501 * z3502) / (1000 : Int32)) S (fun z3503 => K35 z3503 (v7 + (-1 : Int32)))))))
def wl_X1_both_35 (o : Nat) (a1 : Int32) (a2 : Nat) (a3 : Nat) (v4 : Int32) (v5 : Int32) (v6 : Int32) (v7 : Int32) (S : hp_St) (Q : Int32 → Prop) : Prop := ∃ (I : Int32 → Int32 → Prop) (μ : Int32 → Int32 → Nat), I v6 v7 ∧ ∀ (v6 : Int32) (v7 : Int32), I v6 v7 → wb_X1_both_35 o a1 a2 a3 v4 v5 v6 v7 S (fun v6' v7' => I v6' v7' ∧ μ v6' v7' < μ v6 v7) Q
def wp_X1_both (o : Nat) (a1 : Int32) (a2 : Nat) (a3 : Nat) (S : hp_St) (Q : Int32 → Prop) : Prop := (st_C S a2 = 10) ∧ wp_X10_age a2 (st_I S o 4) S (fun z2 => (st_C S a3 = 10) ∧ wp_X10_age a3 (st_I S o 4) S (fun z4 => wl_X1_both_35 o a1 a2 a3 z2 z4 (0 : Int32) ((99 : Int32) - (if z2 < z4 then z4 else z2)) S Q))
theorem nf_X1_both : hp_nf yX1_both 3 = true := by decide +kernel
set_option maxHeartbeats 4000000 in
theorem m_X1_both {l : Launch} {B : Nat} {D : va_G} {s0 : State} {b0 : Nat} (G : hp_G l B D s0 b0) (o : Nat) (a1 : Int32) (a2 : Nat) (a3 : Nat) (Si : hp_St) (Q : Int32 → Prop) (hc0 : st_C Si o = 1) (h : wp_X1_both o a1 a2 a3 Si Q) : hp_M l B D s0 yX1_both cX1_both 8 (some .int) 5 320 0 0 [hp_v B o, .int a1, hp_v B a2, hp_v B a3] Si (hp_Qi B D s0 (fun r S' => S' = Si ∧ Q r)) := by
  refine hp_start G (by decide +kernel) rfl rfl (lv := [(0, hp_v B o), (1, .int a1), (2, hp_v B a2), (3, hp_v B a3)]) (by simp [lg_sl, hp_vc, hp_ci, hp_cj]) (by simp [lv_args, hp_vc, hp_ci, hp_cj]) ?_
  intro p e s m args below meth c E ls hl hR
  generalize hH : s.heap = H at hR ⊢
  generalize hLo : ([] : List Loc) = locs at hR ⊢
  have b35 : ∀ (v4 : Int32) (v5 : Int32) (v6 : Int32) (v7 : Int32) (H : Heap) (locs : List Loc) (ls : Array Slot), wl_X1_both_35 o a1 a2 a3 v4 v5 v6 v7 Si Q → lv_has ls 8 [(0, hp_v B o), (1, .int a1), (2, hp_v B a2), (3, hp_v B a3), (4, .int v4), (5, .int v5), (6, .int v6), (7, .int v7)] → hp_S B D s0 Si H locs → W p l e ({ frames := 5, cells := 0, slots := 0, locals := 320 } : Room) s m args below meth c H locs 0 0 (MQ below (hp_Qi B D s0 (fun r S' => S' = Si ∧ Q r)) args s 0 0 (fun q => B < q)) (F0 m 35 ls []) := by
    intro v4 v5 v6 v7 H locs ls h hl hR
    obtain ⟨I35, μ35, hI, hst⟩ := h
    have key35 : ∀ (N : Nat) (v6 : Int32) (v7 : Int32) (H : Heap) (locs : List Loc) (ls : Array Slot), μ35 v6 v7 < N → I35 v6 v7 → lv_has ls 8 [(0, hp_v B o), (1, .int a1), (2, hp_v B a2), (3, hp_v B a3), (4, .int v4), (5, .int v5), (6, .int v6), (7, .int v7)] → hp_S B D s0 Si H locs → W p l e ({ frames := 5, cells := 0, slots := 0, locals := 320 } : Room) s m args below meth c H locs 0 0 (MQ below (hp_Qi B D s0 (fun r S' => S' = Si ∧ Q r)) args s 0 0 (fun q => B < q)) (F0 m 35 ls []) := by
      intro N
      induction N with
      | zero =>
        intro v6 v7 H locs ls hN
        exact absurd hN (Nat.not_lt_zero _)
      | succ N ih35 =>
        intro v6 v7 H locs ls hN hI hl hR
        have h := hst v6 v7 hI
        obtain ⟨K35, hKe35⟩ : ∃ K : Int32 → Int32 → Prop, K = (fun v6' v7' => I35 v6' v7' ∧ μ35 v6' v7' < μ35 v6 v7) := ⟨_, rfl⟩
        rw [← hKe35] at h
        have hK35 : ∀ (v6' : Int32) (v7' : Int32) (H : Heap) (locs : List Loc) (ls : Array Slot), K35 v6' v7' → lv_has ls 8 [(0, hp_v B o), (1, .int a1), (2, hp_v B a2), (3, hp_v B a3), (4, .int v4), (5, .int v5), (6, .int (v6')), (7, .int (v7'))] → hp_S B D s0 Si H locs → W p l e ({ frames := 5, cells := 0, slots := 0, locals := 320 } : Room) s m args below meth c H locs 0 0 (MQ below (hp_Qi B D s0 (fun r S' => S' = Si ∧ Q r)) args s 0 0 (fun q => B < q)) (F0 m 35 ls []) := by
          intro v6' v7' H locs ls hI hl hR
          rw [hKe35] at hI
          exact ih35 v6' v7' H locs ls (Nat.lt_of_lt_of_le hI.2 (Nat.le_of_lt_succ hN)) hI.1 hl hR
        unfold wb_X1_both_35 at h
        refine hp_iload E hl 7 rfl dX1_both_35 (rfl : 35 + 2 = 37) ?_
        refine hp_if_lt E dX1_both_37 (rfl : 37 + 3 = 40) (tgt := 81) (by decide) (fun hb => ?_) (fun hb => ?_)
        · have h := h.1 hb
          refine hp_iload E hl 6 rfl dX1_both_81 (rfl : 81 + 2 = 83) ?_
          exact hp_iret E hR ⟨rfl, h⟩ (Nat.le_of_ble_eq_true rfl) (Nat.le_of_ble_eq_true rfl) dX1_both_83
        · have h := h.2 hb
          refine hp_aload_n E hl 0 rfl 0 rfl dX1_both_40 (rfl : 40 + 1 = 41) ?_
          refine hp_iload E hl 6 rfl dX1_both_41 (rfl : 41 + 2 = 43) ?_
          refine hp_aload_n E hl 0 rfl 0 rfl dX1_both_43 (rfl : 43 + 1 = 44) ?_
          refine hp_iload_n E hl 1 rfl 1 rfl dX1_both_44 (rfl : 44 + 1 = 45) ?_
          refine hp_aload_n E hl 2 rfl 2 rfl dX1_both_45 (rfl : 45 + 1 = 46) ?_
          refine hp_iload E hl 4 rfl dX1_both_46 (rfl : 46 + 2 = 48) ?_
          refine hp_iload E hl 7 rfl dX1_both_48 (rfl : 48 + 2 = 50) ?_
          refine hp_iadd E dX1_both_50 (rfl : 50 + 1 = 51) ?_
          refine hp_fi (hp_rV E hR hl (m_X1_live G _ _ _ _ _ _ hc0 h) hc0 (ci := 0) rfl rfl q1094 q1096 qs26 q73 q1097 nf_X1_live ⟨Nat.le_of_ble_eq_true rfl, Nat.le_of_ble_eq_true rfl⟩ (rest := [.int v6, hp_v B o]) rfl (Nat.le_of_ble_eq_true rfl) dX1_both_51 ⟨Nat.le_of_ble_eq_true rfl, Nat.le_of_ble_eq_true rfl⟩) hR (rfl : 51 + 3 = 54) (fun z3501 Sx H locs hq hR => ?_)
          obtain ⟨hSx, h⟩ := hq
          rw [hSx] at hR
          refine hp_aload_n E hl 0 rfl 0 rfl dX1_both_54 (rfl : 54 + 1 = 55) ?_
          refine hp_iload_n E hl 1 rfl 1 rfl dX1_both_55 (rfl : 55 + 1 = 56) ?_
          refine hp_aload_n E hl 3 rfl 3 rfl dX1_both_56 (rfl : 56 + 1 = 57) ?_
          refine hp_iload E hl 5 rfl dX1_both_57 (rfl : 57 + 2 = 59) ?_
          refine hp_iload E hl 7 rfl dX1_both_59 (rfl : 59 + 2 = 61) ?_
          refine hp_iadd E dX1_both_61 (rfl : 61 + 1 = 62) ?_
          refine hp_fi (hp_rV E hR hl (m_X1_live G _ _ _ _ _ _ hc0 h) hc0 (ci := 0) rfl rfl q1094 q1096 qs26 q73 q1097 nf_X1_live ⟨Nat.le_of_ble_eq_true rfl, Nat.le_of_ble_eq_true rfl⟩ (rest := [.int z3501, .int v6, hp_v B o]) rfl (Nat.le_of_ble_eq_true rfl) dX1_both_62 ⟨Nat.le_of_ble_eq_true rfl, Nat.le_of_ble_eq_true rfl⟩) hR (rfl : 62 + 3 = 65) (fun z3502 Sx H locs hq hR => ?_)
          obtain ⟨hSx, h⟩ := hq
          rw [hSx] at hR
          refine hp_imul E dX1_both_65 (rfl : 65 + 1 = 66) ?_
          refine hp_sipush E (1000 : Int32) (by decide) dX1_both_66 (rfl : 66 + 3 = 69) ?_
          refine hp_idiv E (by decide) dX1_both_69 (rfl : 69 + 1 = 70) ?_
          refine hp_fi (hp_rV E hR hl (m_X1_discounted G _ _ _ _ _ hc0 h) hc0 (ci := 0) rfl rfl q1099 q1101 qs27 q73 q1102 nf_X1_discounted ⟨Nat.le_of_ble_eq_true rfl, Nat.le_of_ble_eq_true rfl⟩ (rest := []) rfl (Nat.le_of_ble_eq_true rfl) dX1_both_70 ⟨Nat.le_of_ble_eq_true rfl, Nat.le_of_ble_eq_true rfl⟩) hR (rfl : 70 + 3 = 73) (fun z3503 Sx H locs hq hR => ?_)
          obtain ⟨hSx, h⟩ := hq
          rw [hSx] at hR
          refine hp_istore E hl 6 (lv' := [(0, hp_v B o), (1, .int a1), (2, hp_v B a2), (3, hp_v B a3), (4, .int v4), (5, .int v5), (7, .int v7)]) dX1_both_73 (rfl : 73 + 2 = 75) (by decide) rfl (fun ls hl => ?_)
          refine hp_iinc E hl (v7 + (-1 : Int32)) 7 (lv' := [(6, .int z3503), (0, hp_v B o), (1, .int a1), (2, hp_v B a2), (3, hp_v B a3), (4, .int v4), (5, .int v5)]) dX1_both_75 (rfl : 75 + 3 = 78) rfl (by first | rfl | (congr 1)) (by decide) rfl (fun ls hl => ?_)
          refine hp_goto E (tgt := 35) dX1_both_78 (by decide) ?_
          exact hK35 _ _ _ _ _ h (lv_sub hl [2, 3, 4, 5, 6, 7, 1, 0] rfl) hR
    exact key35 (μ35 v6 v7 + 1) v6 v7 H locs ls (Nat.lt_succ_self _) hI hl hR
  unfold wp_X1_both at h
  refine hp_aload_n E hl 2 rfl 2 rfl dX1_both_0 (rfl : 0 + 1 = 1) ?_
  refine hp_aload_n E hl 0 rfl 0 rfl dX1_both_1 (rfl : 1 + 1 = 2) ?_
  refine hp_getI E hR in_X1 hc0 rfl 4 (Nat.le_of_ble_eq_true rfl) rfl q320 (fun _ h => h) dX1_both_2 (rfl : 2 + 3 = 5) ?_
  obtain ⟨hc1, h⟩ := h
  refine hp_fi (hp_rV E hR hl (m_X10_age G _ _ _ _ hc1 h) hc1 (ci := 9) rfl rfl q777 q755 q756 q95 q757 nf_X10_age ⟨Nat.le_of_ble_eq_true rfl, Nat.le_of_ble_eq_true rfl⟩ (rest := []) rfl (Nat.le_of_ble_eq_true rfl) dX1_both_5 ⟨Nat.le_of_ble_eq_true rfl, Nat.le_of_ble_eq_true rfl⟩) hR (rfl : 5 + 3 = 8) (fun z2 Sx H locs hq hR => ?_)
  obtain ⟨hSx, h⟩ := hq
  rw [hSx] at hR
  refine hp_istore E hl 4 (lv' := [(0, hp_v B o), (1, .int a1), (2, hp_v B a2), (3, hp_v B a3)]) dX1_both_8 (rfl : 8 + 2 = 10) (by decide) (by simp [hp_vc, hp_ci, hp_cj]) (fun ls hl => ?_)
  refine hp_aload_n E hl 3 rfl 4 rfl dX1_both_10 (rfl : 10 + 1 = 11) ?_
  refine hp_aload_n E hl 0 rfl 1 rfl dX1_both_11 (rfl : 11 + 1 = 12) ?_
  refine hp_getI E hR in_X1 hc0 rfl 4 (Nat.le_of_ble_eq_true rfl) rfl q320 (fun _ h => h) dX1_both_12 (rfl : 12 + 3 = 15) ?_
  obtain ⟨hc3, h⟩ := h
  refine hp_fi (hp_rV E hR hl (m_X10_age G _ _ _ _ hc3 h) hc3 (ci := 9) rfl rfl q777 q755 q756 q95 q757 nf_X10_age ⟨Nat.le_of_ble_eq_true rfl, Nat.le_of_ble_eq_true rfl⟩ (rest := []) rfl (Nat.le_of_ble_eq_true rfl) dX1_both_15 ⟨Nat.le_of_ble_eq_true rfl, Nat.le_of_ble_eq_true rfl⟩) hR (rfl : 15 + 3 = 18) (fun z4 Sx H locs hq hR => ?_)
  obtain ⟨hSx, h⟩ := hq
  rw [hSx] at hR
  refine hp_istore E hl 5 (lv' := [(4, .int z2), (0, hp_v B o), (1, .int a1), (2, hp_v B a2), (3, hp_v B a3)]) dX1_both_18 (rfl : 18 + 2 = 20) (by decide) rfl (fun ls hl => ?_)
  refine hp_iconst E (0 : Int32) (by decide) dX1_both_20 (rfl : 20 + 1 = 21) ?_
  refine hp_istore E hl 6 (lv' := [(5, .int z4), (4, .int z2), (0, hp_v B o), (1, .int a1), (2, hp_v B a2), (3, hp_v B a3)]) dX1_both_21 (rfl : 21 + 2 = 23) (by decide) rfl (fun ls hl => ?_)
  refine hp_bipush E (99 : Int32) (by decide) dX1_both_23 (rfl : 23 + 2 = 25) ?_
  refine hp_iload E hl 2 rfl dX1_both_25 (rfl : 25 + 2 = 27) ?_
  refine hp_iload E hl 1 rfl dX1_both_27 (rfl : 27 + 2 = 29) ?_
  refine hp_max E hl q1000 (Nat.le_of_ble_eq_true rfl) (Nat.le_of_ble_eq_true rfl) (Nat.le_of_ble_eq_true rfl) (Nat.le_of_ble_eq_true rfl) (Nat.le_of_ble_eq_true rfl) dX1_both_29 (rfl : 29 + 3 = 32) ?_
  refine hp_isub E dX1_both_32 (rfl : 32 + 1 = 33) ?_
  refine hp_istore E hl 7 (lv' := [(6, .int (0 : Int32)), (5, .int z4), (4, .int z2), (0, hp_v B o), (1, .int a1), (2, hp_v B a2), (3, hp_v B a3)]) dX1_both_33 (rfl : 33 + 2 = 35) (by decide) rfl (fun ls hl => ?_)
  exact b35 _ _ _ _ _ _ _ h (lv_sub hl [4, 5, 6, 7, 3, 2, 1, 0] rfl) hR
def wb_X1_worth_2_53 (o : Nat) (a1 : Int32) (a2 : Nat) (a3 : Nat) (t0 : Int32) (S : hp_St) (Q : Int32 → Prop) : Prop := Q t0
def wb_X1_worth_2_18 (o : Nat) (a1 : Int32) (a2 : Nat) (a3 : Nat) (t0 : Int32) (S : hp_St) (Q : Int32 → Prop) : Prop := Q t0
def wp_X1_worth_2 (o : Nat) (a1 : Int32) (a2 : Nat) (a3 : Nat) (S : hp_St) (Q : Int32 → Prop) : Prop := (((a2 = 0) → (((a3 = 0) → wb_X1_worth_2_18 o a1 a2 a3 (0 : Int32) S Q) ∧ ((¬ (a3 = 0)) → wp_X1_worth_3 o a1 a3 S (fun z1 => wb_X1_worth_2_18 o a1 a2 a3 z1 S Q)))) ∧ ((¬ (a2 = 0)) → (((a3 = 0) → wp_X1_worth_3 o a1 a2 S (fun z2 => wb_X1_worth_2_53 o a1 a2 a3 z2 S Q)) ∧ ((¬ (a3 = 0)) → wp_X1_worth_3 o a1 a2 S (fun z3 => wp_X1_worth_3 o a1 a3 S (fun z4 => wp_X1_both o a1 a2 a3 S (fun z5 => wb_X1_worth_2_53 o a1 a2 a3 ((z3 + z4) - z5) S Q)))))))
theorem nf_X1_worth_2 : hp_nf yX1_worth_2 3 = true := by decide +kernel
set_option maxHeartbeats 4000000 in
theorem m_X1_worth_2 {l : Launch} {B : Nat} {D : va_G} {s0 : State} {b0 : Nat} (G : hp_G l B D s0 b0) (o : Nat) (a1 : Int32) (a2 : Nat) (a3 : Nat) (Si : hp_St) (Q : Int32 → Prop) (hc0 : st_C Si o = 1) (h : wp_X1_worth_2 o a1 a2 a3 Si Q) : hp_M l B D s0 yX1_worth_2 cX1_worth_2 4 (some .int) 6 384 0 0 [hp_v B o, .int a1, hp_v B a2, hp_v B a3] Si (hp_Qi B D s0 (fun r S' => S' = Si ∧ Q r)) := by
  refine hp_start G (by decide +kernel) rfl rfl (lv := [(0, hp_v B o), (1, .int a1), (2, hp_v B a2), (3, hp_v B a3)]) (by simp [lg_sl, hp_vc, hp_ci, hp_cj]) (by simp [lv_args, hp_vc, hp_ci, hp_cj]) ?_
  intro p e s m args below meth c E ls hl hR
  generalize hH : s.heap = H at hR ⊢
  generalize hLo : ([] : List Loc) = locs at hR ⊢
  have b53 : ∀ (t0 : Int32) (H : Heap) (locs : List Loc) (ls : Array Slot), wb_X1_worth_2_53 o a1 a2 a3 t0 Si Q → lv_has ls 4 [] → hp_S B D s0 Si H locs → W p l e ({ frames := 6, cells := 0, slots := 0, locals := 384 } : Room) s m args below meth c H locs 0 0 (MQ below (hp_Qi B D s0 (fun r S' => S' = Si ∧ Q r)) args s 0 0 (fun q => B < q)) (F0 m 53 ls [.int t0]) := by
    intro t0 H locs ls h hl hR
    unfold wb_X1_worth_2_53 at h
    exact hp_iret E hR ⟨rfl, h⟩ (Nat.le_of_ble_eq_true rfl) (Nat.le_of_ble_eq_true rfl) dX1_worth_2_53
  have b18 : ∀ (t0 : Int32) (H : Heap) (locs : List Loc) (ls : Array Slot), wb_X1_worth_2_18 o a1 a2 a3 t0 Si Q → lv_has ls 4 [] → hp_S B D s0 Si H locs → W p l e ({ frames := 6, cells := 0, slots := 0, locals := 384 } : Room) s m args below meth c H locs 0 0 (MQ below (hp_Qi B D s0 (fun r S' => S' = Si ∧ Q r)) args s 0 0 (fun q => B < q)) (F0 m 18 ls [.int t0]) := by
    intro t0 H locs ls h hl hR
    unfold wb_X1_worth_2_18 at h
    exact hp_iret E hR ⟨rfl, h⟩ (Nat.le_of_ble_eq_true rfl) (Nat.le_of_ble_eq_true rfl) dX1_worth_2_18
  unfold wp_X1_worth_2 at h
  refine hp_aload_n E hl 2 rfl 2 rfl dX1_worth_2_0 (rfl : 0 + 1 = 1) ?_
  refine hp_ifnonnull E dX1_worth_2_1 (rfl : 1 + 3 = 4) (tgt := 19) (by decide) (fun hb => ?_) (fun hb => ?_)
  · have h := h.1 hb
    refine hp_aload_n E hl 3 rfl 3 rfl dX1_worth_2_4 (rfl : 4 + 1 = 5) ?_
    refine hp_ifnonnull E dX1_worth_2_5 (rfl : 5 + 3 = 8) (tgt := 12) (by decide) (fun hb => ?_) (fun hb => ?_)
    · have h := h.1 hb
      refine hp_iconst E (0 : Int32) (by decide) dX1_worth_2_8 (rfl : 8 + 1 = 9) ?_
      refine hp_goto E (tgt := 18) dX1_worth_2_9 (by decide) ?_
      exact b18 _ _ _ _ h (lv_sub hl [] rfl) hR
    · have h := h.2 hb
      refine hp_aload_n E hl 0 rfl 0 rfl dX1_worth_2_12 (rfl : 12 + 1 = 13) ?_
      refine hp_iload_n E hl 1 rfl 1 rfl dX1_worth_2_13 (rfl : 13 + 1 = 14) ?_
      refine hp_aload_n E hl 3 rfl 3 rfl dX1_worth_2_14 (rfl : 14 + 1 = 15) ?_
      refine hp_fi (hp_rV E hR hl (m_X1_worth_3 G _ _ _ _ _ hc0 h) hc0 (ci := 0) rfl rfl q1090 q1092 qs25 q73 q1093 nf_X1_worth_3 ⟨Nat.le_of_ble_eq_true rfl, Nat.le_of_ble_eq_true rfl⟩ (rest := []) rfl (Nat.le_of_ble_eq_true rfl) dX1_worth_2_15 ⟨Nat.le_of_ble_eq_true rfl, Nat.le_of_ble_eq_true rfl⟩) hR (rfl : 15 + 3 = 18) (fun z1 Sx H locs hq hR => ?_)
      obtain ⟨hSx, h⟩ := hq
      rw [hSx] at hR
      exact b18 _ _ _ _ h (lv_sub hl [] rfl) hR
  · have h := h.2 hb
    refine hp_aload_n E hl 3 rfl 3 rfl dX1_worth_2_19 (rfl : 19 + 1 = 20) ?_
    refine hp_ifnonnull E dX1_worth_2_20 (rfl : 20 + 3 = 23) (tgt := 32) (by decide) (fun hb => ?_) (fun hb => ?_)
    · have h := h.1 hb
      refine hp_aload_n E hl 0 rfl 0 rfl dX1_worth_2_23 (rfl : 23 + 1 = 24) ?_
      refine hp_iload_n E hl 1 rfl 1 rfl dX1_worth_2_24 (rfl : 24 + 1 = 25) ?_
      refine hp_aload_n E hl 2 rfl 2 rfl dX1_worth_2_25 (rfl : 25 + 1 = 26) ?_
      refine hp_fi (hp_rV E hR hl (m_X1_worth_3 G _ _ _ _ _ hc0 h) hc0 (ci := 0) rfl rfl q1090 q1092 qs25 q73 q1093 nf_X1_worth_3 ⟨Nat.le_of_ble_eq_true rfl, Nat.le_of_ble_eq_true rfl⟩ (rest := []) rfl (Nat.le_of_ble_eq_true rfl) dX1_worth_2_26 ⟨Nat.le_of_ble_eq_true rfl, Nat.le_of_ble_eq_true rfl⟩) hR (rfl : 26 + 3 = 29) (fun z2 Sx H locs hq hR => ?_)
      obtain ⟨hSx, h⟩ := hq
      rw [hSx] at hR
      refine hp_goto E (tgt := 53) dX1_worth_2_29 (by decide) ?_
      exact b53 _ _ _ _ h (lv_sub hl [] rfl) hR
    · have h := h.2 hb
      refine hp_aload_n E hl 0 rfl 0 rfl dX1_worth_2_32 (rfl : 32 + 1 = 33) ?_
      refine hp_iload_n E hl 1 rfl 1 rfl dX1_worth_2_33 (rfl : 33 + 1 = 34) ?_
      refine hp_aload_n E hl 2 rfl 2 rfl dX1_worth_2_34 (rfl : 34 + 1 = 35) ?_
      refine hp_fi (hp_rV E hR hl (m_X1_worth_3 G _ _ _ _ _ hc0 h) hc0 (ci := 0) rfl rfl q1090 q1092 qs25 q73 q1093 nf_X1_worth_3 ⟨Nat.le_of_ble_eq_true rfl, Nat.le_of_ble_eq_true rfl⟩ (rest := []) rfl (Nat.le_of_ble_eq_true rfl) dX1_worth_2_35 ⟨Nat.le_of_ble_eq_true rfl, Nat.le_of_ble_eq_true rfl⟩) hR (rfl : 35 + 3 = 38) (fun z3 Sx H locs hq hR => ?_)
      obtain ⟨hSx, h⟩ := hq
      rw [hSx] at hR
      refine hp_aload_n E hl 0 rfl 0 rfl dX1_worth_2_38 (rfl : 38 + 1 = 39) ?_
      refine hp_iload_n E hl 1 rfl 1 rfl dX1_worth_2_39 (rfl : 39 + 1 = 40) ?_
      refine hp_aload_n E hl 3 rfl 3 rfl dX1_worth_2_40 (rfl : 40 + 1 = 41) ?_
      refine hp_fi (hp_rV E hR hl (m_X1_worth_3 G _ _ _ _ _ hc0 h) hc0 (ci := 0) rfl rfl q1090 q1092 qs25 q73 q1093 nf_X1_worth_3 ⟨Nat.le_of_ble_eq_true rfl, Nat.le_of_ble_eq_true rfl⟩ (rest := [.int z3]) rfl (Nat.le_of_ble_eq_true rfl) dX1_worth_2_41 ⟨Nat.le_of_ble_eq_true rfl, Nat.le_of_ble_eq_true rfl⟩) hR (rfl : 41 + 3 = 44) (fun z4 Sx H locs hq hR => ?_)
      obtain ⟨hSx, h⟩ := hq
      rw [hSx] at hR
      refine hp_iadd E dX1_worth_2_44 (rfl : 44 + 1 = 45) ?_
      refine hp_aload_n E hl 0 rfl 0 rfl dX1_worth_2_45 (rfl : 45 + 1 = 46) ?_
      refine hp_iload_n E hl 1 rfl 1 rfl dX1_worth_2_46 (rfl : 46 + 1 = 47) ?_
      refine hp_aload_n E hl 2 rfl 2 rfl dX1_worth_2_47 (rfl : 47 + 1 = 48) ?_
      refine hp_aload_n E hl 3 rfl 3 rfl dX1_worth_2_48 (rfl : 48 + 1 = 49) ?_
      refine hp_fi (hp_rV E hR hl (m_X1_both G _ _ _ _ _ _ hc0 h) hc0 (ci := 0) rfl rfl q1103 q1105 qs28 q73 q1106 nf_X1_both ⟨Nat.le_of_ble_eq_true rfl, Nat.le_of_ble_eq_true rfl⟩ (rest := [.int (z3 + z4)]) rfl (Nat.le_of_ble_eq_true rfl) dX1_worth_2_49 ⟨Nat.le_of_ble_eq_true rfl, Nat.le_of_ble_eq_true rfl⟩) hR (rfl : 49 + 3 = 52) (fun z5 Sx H locs hq hR => ?_)
      obtain ⟨hSx, h⟩ := hq
      rw [hSx] at hR
      refine hp_isub E dX1_worth_2_52 (rfl : 52 + 1 = 53) ?_
      exact b53 _ _ _ _ h (lv_sub hl [] rfl) hR
def wb_X1_worth_76 (o : Nat) (a1 : Int32) (a2 : Int32) (a3 : Int32) (S : hp_St) (Q : Int32 → hp_St → Prop) : Prop := Q (-1 : Int32) S
def wb_X1_worth_78 (o : Nat) (a1 : Int32) (a2 : Int32) (a3 : Int32) (r4 : Nat) (r5 : Nat) (S : hp_St) (Q : Int32 → hp_St → Prop) : Prop := (st_C S (st_R S o 13) = 4) ∧ wp_X4_know (st_R S o 13) (st_I S o 4) S (fun z7802 S7803 => hp_mono S S7803 → (st_C S7803 (st_R S o 14) = 5) ∧ wp_X5_count (st_R S o 14) z7802 S7803 (fun S7806 => hp_mono S7803 S7806 → wp_X1_worth_2 o a3 r4 r5 S7806 (fun z7808 => Q z7808 S7806)))
def wb_X1_worth_34 (o : Nat) (a1 : Int32) (a2 : Int32) (a3 : Int32) (r4 : Nat) (r5 : Nat) (S : hp_St) (Q : Int32 → hp_St → Prop) : Prop := wp_X1_in a3 (0 : Int32) (3 : Int32) S (fun z3401 => (((z3401 = 0) → wb_X1_worth_76 o a1 a2 a3 S Q) ∧ ((¬ (z3401 = 0)) → (st_C S r4 = 10) ∧ wp_X10_age r4 (st_I S o 4) S (fun z3403 => (((z3403 < (100 : Int32)) → (((r5 = 0) → wb_X1_worth_78 o a1 a2 a3 r4 r5 S Q) ∧ ((¬ (r5 = 0)) → (st_C S r5 = 10) ∧ wp_X10_age r5 (st_I S o 4) S (fun z3405 => (((z3405 < (100 : Int32)) → wb_X1_worth_78 o a1 a2 a3 r4 r5 S Q) ∧ ((¬ (z3405 < (100 : Int32))) → wb_X1_worth_76 o a1 a2 a3 S Q)))))) ∧ ((¬ (z3403 < (100 : Int32))) → wb_X1_worth_76 o a1 a2 a3 S Q))))))
def wp_X1_worth (o : Nat) (a1 : Int32) (a2 : Int32) (a3 : Int32) (S : hp_St) (Q : Int32 → hp_St → Prop) : Prop := wp_X1_aLife o a1 S (fun z1 => wp_X1_aLife o a2 S (fun z2 => (((z1 = 0) → wb_X1_worth_76 o a1 a2 a3 S Q) ∧ ((¬ (z1 = 0)) → (((a2 = (-1 : Int32)) → wb_X1_worth_34 o a1 a2 a3 z1 z2 S Q) ∧ ((¬ (a2 = (-1 : Int32))) → (((z2 = 0) → wb_X1_worth_76 o a1 a2 a3 S Q) ∧ ((¬ (z2 = 0)) → (((a2 = a1) → wb_X1_worth_76 o a1 a2 a3 S Q) ∧ ((¬ (a2 = a1)) → wb_X1_worth_34 o a1 a2 a3 z1 z2 S Q))))))))))
theorem nf_X1_worth : hp_nf yX1_worth 3 = true := by decide +kernel
set_option maxHeartbeats 4000000 in
theorem m_X1_worth {l : Launch} {B : Nat} {D : va_G} {s0 : State} {b0 : Nat} (G : hp_G l B D s0 b0) (o : Nat) (a1 : Int32) (a2 : Int32) (a3 : Int32) (Si : hp_St) (Q : Int32 → hp_St → Prop) (hc0 : st_C Si o = 1) (h : wp_X1_worth o a1 a2 a3 Si Q) : hp_M l B D s0 yX1_worth cX1_worth 6 (some .int) 7 448 0 0 [hp_v B o, .int a1, .int a2, .int a3] Si (hp_Qi B D s0 (fun r S' => hp_mono Si S' ∧ Q r S')) := by
  refine hp_start G (by decide +kernel) rfl rfl (lv := [(0, hp_v B o), (1, .int a1), (2, .int a2), (3, .int a3)]) (by simp [lg_sl, hp_vc, hp_ci, hp_cj]) (by simp [lv_args, hp_vc, hp_ci, hp_cj]) ?_
  intro p e s m args below meth c E ls hl hR
  have hm : hp_mono Si Si := hp_mono.rf
  generalize hH : s.heap = H at hR ⊢
  generalize hLo : ([] : List Loc) = locs at hR ⊢
  have b76 : ∀ (S : hp_St) (H : Heap) (locs : List Loc) (ls : Array Slot), wb_X1_worth_76 o a1 a2 a3 S Q → lv_has ls 6 [] → hp_S B D s0 S H locs → hp_mono Si S → W p l e ({ frames := 7, cells := 0, slots := 0, locals := 448 } : Room) s m args below meth c H locs 0 0 (MQ below (hp_Qi B D s0 (fun r S' => hp_mono Si S' ∧ Q r S')) args s 0 0 (fun q => B < q)) (F0 m 76 ls []) := by
    intro S H locs ls h hl hR hm
    unfold wb_X1_worth_76 at h
    refine hp_iconst E (-1 : Int32) (by decide) dX1_worth_76 (rfl : 76 + 1 = 77) ?_
    exact hp_iret E hR ⟨hm, h⟩ (Nat.le_of_ble_eq_true rfl) (Nat.le_of_ble_eq_true rfl) dX1_worth_77
  have b78 : ∀ (r4 : Nat) (r5 : Nat) (S : hp_St) (H : Heap) (locs : List Loc) (ls : Array Slot), wb_X1_worth_78 o a1 a2 a3 r4 r5 S Q → lv_has ls 6 [(0, hp_v B o), (3, .int a3), (4, hp_v B r4), (5, hp_v B r5)] → hp_S B D s0 S H locs → hp_mono Si S → W p l e ({ frames := 7, cells := 0, slots := 0, locals := 448 } : Room) s m args below meth c H locs 0 0 (MQ below (hp_Qi B D s0 (fun r S' => hp_mono Si S' ∧ Q r S')) args s 0 0 (fun q => B < q)) (F0 m 78 ls []) := by
    intro r4 r5 S H locs ls h hl hR hm
    unfold wb_X1_worth_78 at h
    refine hp_aload_n E hl 0 rfl 0 rfl dX1_worth_78 (rfl : 78 + 1 = 79) ?_
    refine hp_getR E hR in_X1 (hp_mono.c hm hc0) rfl 14 (Nat.le_of_ble_eq_true rfl) rfl q337 (fun _ h => h) dX1_worth_79 (rfl : 79 + 3 = 82) ?_
    refine hp_aload_n E hl 0 rfl 0 rfl dX1_worth_82 (rfl : 82 + 1 = 83) ?_
    refine hp_getR E hR in_X1 (hp_mono.c hm hc0) rfl 13 (Nat.le_of_ble_eq_true rfl) rfl q336 (fun _ h => h) dX1_worth_83 (rfl : 83 + 3 = 86) ?_
    refine hp_aload_n E hl 0 rfl 0 rfl dX1_worth_86 (rfl : 86 + 1 = 87) ?_
    refine hp_getI E hR in_X1 (hp_mono.c hm hc0) rfl 4 (Nat.le_of_ble_eq_true rfl) rfl q320 (fun _ h => h) dX1_worth_87 (rfl : 87 + 3 = 90) ?_
    obtain ⟨hc7801, h⟩ := h
    refine hp_fa (hp_rV E hR hl (m_X4_know G _ _ _ _ hc7801 h) hc7801 (ci := 3) rfl rfl q946 q947 q948 q79 q949 nf_X4_know ⟨Nat.le_of_ble_eq_true rfl, Nat.le_of_ble_eq_true rfl⟩ (rest := [hp_v B (st_R S o 14)]) rfl (Nat.le_of_ble_eq_true rfl) dX1_worth_90 ⟨Nat.le_of_ble_eq_true rfl, Nat.le_of_ble_eq_true rfl⟩) hR (rfl : 90 + 3 = 93) (fun z7802 S7803 H locs hq hR => ?_)
    obtain ⟨hm7804, h⟩ := hq
    have h := h hm7804
    have hm := hp_mono.tr hm hm7804
    obtain ⟨hc7805, h⟩ := h
    refine hp_fv (hp_rV E hR hl (m_X5_count G _ _ _ _ hc7805 h) hc7805 (ci := 4) rfl rfl q1057 q1058 q1059 q80 q1060 nf_X5_count ⟨Nat.le_of_ble_eq_true rfl, Nat.le_of_ble_eq_true rfl⟩ (rest := []) rfl (Nat.le_of_ble_eq_true rfl) dX1_worth_93 ⟨Nat.le_of_ble_eq_true rfl, Nat.le_of_ble_eq_true rfl⟩) hR (rfl : 93 + 3 = 96) (fun S7806 H locs hq hR => ?_)
    obtain ⟨hm7807, h⟩ := hq
    have h := h hm7807
    have hm := hp_mono.tr hm hm7807
    refine hp_aload_n E hl 0 rfl 0 rfl dX1_worth_96 (rfl : 96 + 1 = 97) ?_
    refine hp_iload_n E hl 3 rfl 1 rfl dX1_worth_97 (rfl : 97 + 1 = 98) ?_
    refine hp_aload E hl 2 rfl dX1_worth_98 (rfl : 98 + 2 = 100) ?_
    refine hp_aload E hl 3 rfl dX1_worth_100 (rfl : 100 + 2 = 102) ?_
    refine hp_fi (hp_rV E hR hl (m_X1_worth_2 G _ _ _ _ _ _ (hp_mono.c hm hc0) h) (hp_mono.c hm hc0) (ci := 0) rfl rfl q1086 q1088 qs24 q73 q1089 nf_X1_worth_2 ⟨Nat.le_of_ble_eq_true rfl, Nat.le_of_ble_eq_true rfl⟩ (rest := []) rfl (Nat.le_of_ble_eq_true rfl) dX1_worth_102 ⟨Nat.le_of_ble_eq_true rfl, Nat.le_of_ble_eq_true rfl⟩) hR (rfl : 102 + 3 = 105) (fun z7808 Sx H locs hq hR => ?_)
    obtain ⟨hSx, h⟩ := hq
    rw [hSx] at hR
    exact hp_iret E hR ⟨hm, h⟩ (Nat.le_of_ble_eq_true rfl) (Nat.le_of_ble_eq_true rfl) dX1_worth_105
  have b34 : ∀ (r4 : Nat) (r5 : Nat) (S : hp_St) (H : Heap) (locs : List Loc) (ls : Array Slot), wb_X1_worth_34 o a1 a2 a3 r4 r5 S Q → lv_has ls 6 [(0, hp_v B o), (3, .int a3), (4, hp_v B r4), (5, hp_v B r5)] → hp_S B D s0 S H locs → hp_mono Si S → W p l e ({ frames := 7, cells := 0, slots := 0, locals := 448 } : Room) s m args below meth c H locs 0 0 (MQ below (hp_Qi B D s0 (fun r S' => hp_mono Si S' ∧ Q r S')) args s 0 0 (fun q => B < q)) (F0 m 34 ls []) := by
    intro r4 r5 S H locs ls h hl hR hm
    unfold wb_X1_worth_34 at h
    refine hp_iload_n E hl 3 rfl 1 rfl dX1_worth_34 (rfl : 34 + 1 = 35) ?_
    refine hp_iconst E (0 : Int32) (by decide) dX1_worth_35 (rfl : 35 + 1 = 36) ?_
    refine hp_iconst E (3 : Int32) (by decide) dX1_worth_36 (rfl : 36 + 1 = 37) ?_
    refine hp_fi (hp_rS E hR hl (m_X1_in G _ _ _ _ _ h) q394 q395 q73 q396 nf_X1_in ⟨Nat.le_of_ble_eq_true rfl, Nat.le_of_ble_eq_true rfl⟩ (rest := []) rfl (Nat.le_of_ble_eq_true rfl) dX1_worth_37 ⟨Nat.le_of_ble_eq_true rfl, Nat.le_of_ble_eq_true rfl⟩) hR (rfl : 37 + 3 = 40) (fun z3401 Sx H locs hq hR => ?_)
    obtain ⟨hSx, h⟩ := hq
    rw [hSx] at hR
    refine hp_if_eq E dX1_worth_40 (rfl : 40 + 3 = 43) (tgt := 76) (by decide) (fun hb => ?_) (fun hb => ?_)
    · have h := h.1 hb
      exact b76 _ _ _ _ h (lv_sub hl [] rfl) hR hm
    · have h := h.2 hb
      refine hp_aload E hl 2 rfl dX1_worth_43 (rfl : 43 + 2 = 45) ?_
      refine hp_aload_n E hl 0 rfl 0 rfl dX1_worth_45 (rfl : 45 + 1 = 46) ?_
      refine hp_getI E hR in_X1 (hp_mono.c hm hc0) rfl 4 (Nat.le_of_ble_eq_true rfl) rfl q320 (fun _ h => h) dX1_worth_46 (rfl : 46 + 3 = 49) ?_
      obtain ⟨hc3402, h⟩ := h
      refine hp_fi (hp_rV E hR hl (m_X10_age G _ _ _ _ hc3402 h) hc3402 (ci := 9) rfl rfl q777 q755 q756 q95 q757 nf_X10_age ⟨Nat.le_of_ble_eq_true rfl, Nat.le_of_ble_eq_true rfl⟩ (rest := []) rfl (Nat.le_of_ble_eq_true rfl) dX1_worth_49 ⟨Nat.le_of_ble_eq_true rfl, Nat.le_of_ble_eq_true rfl⟩) hR (rfl : 49 + 3 = 52) (fun z3403 Sx H locs hq hR => ?_)
      obtain ⟨hSx, h⟩ := hq
      rw [hSx] at hR
      refine hp_bipush E (100 : Int32) (by decide) dX1_worth_52 (rfl : 52 + 2 = 54) ?_
      refine hp_icmp_ge E dX1_worth_54 (rfl : 54 + 3 = 57) (tgt := 76) (by decide) (fun hb => ?_) (fun hb => ?_)
      · have h := h.1 hb
        refine hp_aload E hl 3 rfl dX1_worth_57 (rfl : 57 + 2 = 59) ?_
        refine hp_ifnull E dX1_worth_59 (rfl : 59 + 3 = 62) (tgt := 78) (by decide) (fun hb => ?_) (fun hb => ?_)
        · have h := h.1 hb
          exact b78 _ _ _ _ _ _ h hl hR hm
        · have h := h.2 hb
          refine hp_aload E hl 3 rfl dX1_worth_62 (rfl : 62 + 2 = 64) ?_
          refine hp_aload_n E hl 0 rfl 0 rfl dX1_worth_64 (rfl : 64 + 1 = 65) ?_
          refine hp_getI E hR in_X1 (hp_mono.c hm hc0) rfl 4 (Nat.le_of_ble_eq_true rfl) rfl q320 (fun _ h => h) dX1_worth_65 (rfl : 65 + 3 = 68) ?_
          obtain ⟨hc3404, h⟩ := h
          refine hp_fi (hp_rV E hR hl (m_X10_age G _ _ _ _ hc3404 h) hc3404 (ci := 9) rfl rfl q777 q755 q756 q95 q757 nf_X10_age ⟨Nat.le_of_ble_eq_true rfl, Nat.le_of_ble_eq_true rfl⟩ (rest := []) rfl (Nat.le_of_ble_eq_true rfl) dX1_worth_68 ⟨Nat.le_of_ble_eq_true rfl, Nat.le_of_ble_eq_true rfl⟩) hR (rfl : 68 + 3 = 71) (fun z3405 Sx H locs hq hR => ?_)
          obtain ⟨hSx, h⟩ := hq
          rw [hSx] at hR
          refine hp_bipush E (100 : Int32) (by decide) dX1_worth_71 (rfl : 71 + 2 = 73) ?_
          refine hp_icmp_lt E dX1_worth_73 (rfl : 73 + 3 = 76) (tgt := 78) (by decide) (fun hb => ?_) (fun hb => ?_)
          · have h := h.1 hb
            exact b78 _ _ _ _ _ _ h hl hR hm
          · have h := h.2 hb
            exact b76 _ _ _ _ h (lv_sub hl [] rfl) hR hm
      · have h := h.2 hb
        exact b76 _ _ _ _ h (lv_sub hl [] rfl) hR hm
  unfold wp_X1_worth at h
  refine hp_aload_n E hl 0 rfl 0 rfl dX1_worth_0 (rfl : 0 + 1 = 1) ?_
  refine hp_iload_n E hl 1 rfl 1 rfl dX1_worth_1 (rfl : 1 + 1 = 2) ?_
  refine hp_fa (hp_rV E hR hl (m_X1_aLife G _ _ _ _ hc0 h) hc0 (ci := 0) rfl rfl q723 q725 qs16 q73 q726 nf_X1_aLife ⟨Nat.le_of_ble_eq_true rfl, Nat.le_of_ble_eq_true rfl⟩ (rest := []) rfl (Nat.le_of_ble_eq_true rfl) dX1_worth_2 ⟨Nat.le_of_ble_eq_true rfl, Nat.le_of_ble_eq_true rfl⟩) hR (rfl : 2 + 3 = 5) (fun z1 Sx H locs hq hR => ?_)
  obtain ⟨hSx, h⟩ := hq
  rw [hSx] at hR
  refine hp_astore E hl 4 (lv' := [(0, hp_v B o), (1, .int a1), (2, .int a2), (3, .int a3)]) dX1_worth_5 (rfl : 5 + 2 = 7) (by decide) rfl (fun ls hl => ?_)
  refine hp_aload_n E hl 0 rfl 1 rfl dX1_worth_7 (rfl : 7 + 1 = 8) ?_
  refine hp_iload_n E hl 2 rfl 3 rfl dX1_worth_8 (rfl : 8 + 1 = 9) ?_
  refine hp_fa (hp_rV E hR hl (m_X1_aLife G _ _ _ _ hc0 h) hc0 (ci := 0) rfl rfl q723 q725 qs16 q73 q726 nf_X1_aLife ⟨Nat.le_of_ble_eq_true rfl, Nat.le_of_ble_eq_true rfl⟩ (rest := []) rfl (Nat.le_of_ble_eq_true rfl) dX1_worth_9 ⟨Nat.le_of_ble_eq_true rfl, Nat.le_of_ble_eq_true rfl⟩) hR (rfl : 9 + 3 = 12) (fun z2 Sx H locs hq hR => ?_)
  obtain ⟨hSx, h⟩ := hq
  rw [hSx] at hR
  refine hp_astore E hl 5 (lv' := [(4, hp_v B z1), (0, hp_v B o), (1, .int a1), (2, .int a2), (3, .int a3)]) dX1_worth_12 (rfl : 12 + 2 = 14) (by decide) (by simp [hp_vc, hp_ci, hp_cj]) (fun ls hl => ?_)
  refine hp_aload E hl 1 rfl dX1_worth_14 (rfl : 14 + 2 = 16) ?_
  refine hp_ifnull E dX1_worth_16 (rfl : 16 + 3 = 19) (tgt := 76) (by decide) (fun hb => ?_) (fun hb => ?_)
  · have h := h.1 hb
    exact b76 _ _ _ _ h (lv_sub hl [] rfl) hR hm
  · have h := h.2 hb
    refine hp_iload_n E hl 2 rfl 4 rfl dX1_worth_19 (rfl : 19 + 1 = 20) ?_
    refine hp_iconst E (-1 : Int32) (by decide) dX1_worth_20 (rfl : 20 + 1 = 21) ?_
    refine hp_icmp_eq E dX1_worth_21 (rfl : 21 + 3 = 24) (tgt := 34) (by decide) (fun hb => ?_) (fun hb => ?_)
    · have h := h.1 hb
      exact b34 _ _ _ _ _ _ h (lv_sub hl [2, 5, 1, 0] rfl) hR hm
    · have h := h.2 hb
      refine hp_aload E hl 0 rfl dX1_worth_24 (rfl : 24 + 2 = 26) ?_
      refine hp_ifnull E dX1_worth_26 (rfl : 26 + 3 = 29) (tgt := 76) (by decide) (fun hb => ?_) (fun hb => ?_)
      · have h := h.1 hb
        exact b76 _ _ _ _ h (lv_sub hl [] rfl) hR hm
      · have h := h.2 hb
        refine hp_iload_n E hl 2 rfl 4 rfl dX1_worth_29 (rfl : 29 + 1 = 30) ?_
        refine hp_iload_n E hl 1 rfl 3 rfl dX1_worth_30 (rfl : 30 + 1 = 31) ?_
        refine hp_icmp_eq E dX1_worth_31 (rfl : 31 + 3 = 34) (tgt := 76) (by decide) (fun hb => ?_) (fun hb => ?_)
        · have h := h.1 hb
          exact b76 _ _ _ _ h (lv_sub hl [] rfl) hR hm
        · have h := h.2 hb
          exact b34 _ _ _ _ _ _ h (lv_sub hl [2, 5, 1, 0] rfl) hR hm
def wb_X1_named_25 (o : Nat) (a1 : Int32) (t0 : Int32) (S : hp_St) (Q : Int32 → Prop) : Prop := Q t0
def wb_X1_named_15 (o : Nat) (a1 : Int32) (S : hp_St) (Q : Int32 → Prop) : Prop := wb_X1_named_25 o a1 (-1 : Int32) S Q
def wp_X1_named (o : Nat) (a1 : Int32) (S : hp_St) (Q : Int32 → Prop) : Prop := ((((st_I S o 18) = 0) → wb_X1_named_15 o a1 S Q) ∧ ((¬ ((st_I S o 18) = 0)) → wp_X1_aLife o a1 S (fun z1 => (((z1 = 0) → wb_X1_named_15 o a1 S Q) ∧ ((¬ (z1 = 0)) → (st_C S (st_R S o 16) = 50) ∧ (vp_in a1 (st_L S (st_R S o 16))) ∧ wb_X1_named_25 o a1 (st_I S (st_R S o 16) a1.toNatClampNeg) S Q)))))
theorem nf_X1_named : hp_nf yX1_named 1 = true := by decide +kernel
set_option maxHeartbeats 4000000 in
theorem m_X1_named {l : Launch} {B : Nat} {D : va_G} {s0 : State} {b0 : Nat} (G : hp_G l B D s0 b0) (o : Nat) (a1 : Int32) (Si : hp_St) (Q : Int32 → Prop) (hc0 : st_C Si o = 1) (h : wp_X1_named o a1 Si Q) : hp_M l B D s0 yX1_named cX1_named 2 (some .int) 6 384 0 0 [hp_v B o, .int a1] Si (hp_Qi B D s0 (fun r S' => S' = Si ∧ Q r)) := by
  refine hp_start G (by decide +kernel) rfl rfl (lv := [(0, hp_v B o), (1, .int a1)]) (by simp [lg_sl, hp_vc, hp_ci, hp_cj]) (by simp [lv_args, hp_vc, hp_ci, hp_cj]) ?_
  intro p e s m args below meth c E ls hl hR
  generalize hH : s.heap = H at hR ⊢
  generalize hLo : ([] : List Loc) = locs at hR ⊢
  have b25 : ∀ (t0 : Int32) (H : Heap) (locs : List Loc) (ls : Array Slot), wb_X1_named_25 o a1 t0 Si Q → lv_has ls 2 [] → hp_S B D s0 Si H locs → W p l e ({ frames := 6, cells := 0, slots := 0, locals := 384 } : Room) s m args below meth c H locs 0 0 (MQ below (hp_Qi B D s0 (fun r S' => S' = Si ∧ Q r)) args s 0 0 (fun q => B < q)) (F0 m 25 ls [.int t0]) := by
    intro t0 H locs ls h hl hR
    unfold wb_X1_named_25 at h
    exact hp_iret E hR ⟨rfl, h⟩ (Nat.le_of_ble_eq_true rfl) (Nat.le_of_ble_eq_true rfl) dX1_named_25
  have b15 : ∀ (H : Heap) (locs : List Loc) (ls : Array Slot), wb_X1_named_15 o a1 Si Q → lv_has ls 2 [] → hp_S B D s0 Si H locs → W p l e ({ frames := 6, cells := 0, slots := 0, locals := 384 } : Room) s m args below meth c H locs 0 0 (MQ below (hp_Qi B D s0 (fun r S' => S' = Si ∧ Q r)) args s 0 0 (fun q => B < q)) (F0 m 15 ls []) := by
    intro  H locs ls h hl hR
    unfold wb_X1_named_15 at h
    refine hp_iconst E (-1 : Int32) (by decide) dX1_named_15 (rfl : 15 + 1 = 16) ?_
    refine hp_goto E (tgt := 25) dX1_named_16 (by decide) ?_
    exact b25 _ _ _ _ h hl hR
  unfold wp_X1_named at h
  refine hp_aload_n E hl 0 rfl 0 rfl dX1_named_0 (rfl : 0 + 1 = 1) ?_
  refine hp_getI E hR in_X1 hc0 rfl 18 (Nat.le_of_ble_eq_true rfl) rfl q341 (fun _ h => h) dX1_named_1 (rfl : 1 + 3 = 4) ?_
  refine hp_if_eq E dX1_named_4 (rfl : 4 + 3 = 7) (tgt := 15) (by decide) (fun hb => ?_) (fun hb => ?_)
  · have h := h.1 hb
    exact b15 _ _ _ h (lv_sub hl [] rfl) hR
  · have h := h.2 hb
    refine hp_aload_n E hl 0 rfl 0 rfl dX1_named_7 (rfl : 7 + 1 = 8) ?_
    refine hp_iload_n E hl 1 rfl 1 rfl dX1_named_8 (rfl : 8 + 1 = 9) ?_
    refine hp_fa (hp_rV E hR hl (m_X1_aLife G _ _ _ _ hc0 h) hc0 (ci := 0) rfl rfl q723 q725 qs16 q73 q726 nf_X1_aLife ⟨Nat.le_of_ble_eq_true rfl, Nat.le_of_ble_eq_true rfl⟩ (rest := []) rfl (Nat.le_of_ble_eq_true rfl) dX1_named_9 ⟨Nat.le_of_ble_eq_true rfl, Nat.le_of_ble_eq_true rfl⟩) hR (rfl : 9 + 3 = 12) (fun z1 Sx H locs hq hR => ?_)
    obtain ⟨hSx, h⟩ := hq
    rw [hSx] at hR
    refine hp_ifnonnull E dX1_named_12 (rfl : 12 + 3 = 15) (tgt := 19) (by decide) (fun hb => ?_) (fun hb => ?_)
    · have h := h.1 hb
      exact b15 _ _ _ h (lv_sub hl [] rfl) hR
    · have h := h.2 hb
      refine hp_aload_n E hl 0 rfl 0 rfl dX1_named_19 (rfl : 19 + 1 = 20) ?_
      refine hp_getR E hR in_X1 hc0 rfl 16 (Nat.le_of_ble_eq_true rfl) rfl q339 (fun _ h => h) dX1_named_20 (rfl : 20 + 3 = 23) ?_
      refine hp_iload_n E hl 1 rfl 1 rfl dX1_named_23 (rfl : 23 + 1 = 24) ?_
      obtain ⟨hc2, h⟩ := h
      obtain ⟨hi3, h⟩ := h
      refine hp_iald E hR hc2 hi3 dX1_named_24 (rfl : 24 + 1 = 25) ?_
      exact b25 _ _ _ _ h (lv_sub hl [] rfl) hR
def wb_X4_latest_22 (o : Nat) (a1 : Nat) (v2 : Int32) (S : hp_St) (Q : Int32 → Prop) : Prop := Q v2
def wb_X4_latest_3 (o : Nat) (a1 : Nat) (v2 : Int32) (S : hp_St) (K3 : Int32 → Prop) (Q : Int32 → Prop) : Prop := (((v2 < 0) → wb_X4_latest_22 o a1 v2 S Q) ∧ ((¬ (v2 < 0)) → wp_X4_isGood o a1 v2 S (fun z301 => (((z301 = 0) → K3 (v2 + (-1 : Int32))) ∧ ((¬ (z301 = 0)) → wb_X4_latest_22 o a1 v2 S Q)))))
def wl_X4_latest_3 (o : Nat) (a1 : Nat) (v2 : Int32) (S : hp_St) (Q : Int32 → Prop) : Prop := ∃ (I : Int32 → Prop) (μ : Int32 → Nat), I v2 ∧ ∀ (v2 : Int32), I v2 → wb_X4_latest_3 o a1 v2 S (fun v2' => I v2' ∧ μ v2' < μ v2) Q
def wp_X4_latest (o : Nat) (a1 : Nat) (S : hp_St) (Q : Int32 → Prop) : Prop := wl_X4_latest_3 o a1 (79 : Int32) S Q
theorem nf_X4_latest : hp_nf yX4_latest 1 = true := by decide +kernel
set_option maxHeartbeats 4000000 in
theorem m_X4_latest {l : Launch} {B : Nat} {D : va_G} {s0 : State} {b0 : Nat} (G : hp_G l B D s0 b0) (o : Nat) (a1 : Nat) (Si : hp_St) (Q : Int32 → Prop) (hc0 : st_C Si o = 4) (h : wp_X4_latest o a1 Si Q) : hp_M l B D s0 yX4_latest cX4_latest 3 (some .int) 3 192 0 0 [hp_v B o, hp_v B a1] Si (hp_Qi B D s0 (fun r S' => S' = Si ∧ Q r)) := by
  refine hp_start G (by decide +kernel) rfl rfl (lv := [(0, hp_v B o), (1, hp_v B a1)]) (by simp [lg_sl, hp_vc, hp_ci, hp_cj]) (by simp [lv_args, hp_vc, hp_ci, hp_cj]) ?_
  intro p e s m args below meth c E ls hl hR
  generalize hH : s.heap = H at hR ⊢
  generalize hLo : ([] : List Loc) = locs at hR ⊢
  have b22 : ∀ (v2 : Int32) (H : Heap) (locs : List Loc) (ls : Array Slot), wb_X4_latest_22 o a1 v2 Si Q → lv_has ls 3 [(2, .int v2)] → hp_S B D s0 Si H locs → W p l e ({ frames := 3, cells := 0, slots := 0, locals := 192 } : Room) s m args below meth c H locs 0 0 (MQ below (hp_Qi B D s0 (fun r S' => S' = Si ∧ Q r)) args s 0 0 (fun q => B < q)) (F0 m 22 ls []) := by
    intro v2 H locs ls h hl hR
    unfold wb_X4_latest_22 at h
    refine hp_iload_n E hl 2 rfl 0 rfl dX4_latest_22 (rfl : 22 + 1 = 23) ?_
    exact hp_iret E hR ⟨rfl, h⟩ (Nat.le_of_ble_eq_true rfl) (Nat.le_of_ble_eq_true rfl) dX4_latest_23
  have b3 : ∀ (v2 : Int32) (H : Heap) (locs : List Loc) (ls : Array Slot), wl_X4_latest_3 o a1 v2 Si Q → lv_has ls 3 [(0, hp_v B o), (1, hp_v B a1), (2, .int v2)] → hp_S B D s0 Si H locs → W p l e ({ frames := 3, cells := 0, slots := 0, locals := 192 } : Room) s m args below meth c H locs 0 0 (MQ below (hp_Qi B D s0 (fun r S' => S' = Si ∧ Q r)) args s 0 0 (fun q => B < q)) (F0 m 3 ls []) := by
    intro v2 H locs ls h hl hR
    obtain ⟨I3, μ3, hI, hst⟩ := h
    have key3 : ∀ (N : Nat) (v2 : Int32) (H : Heap) (locs : List Loc) (ls : Array Slot), μ3 v2 < N → I3 v2 → lv_has ls 3 [(0, hp_v B o), (1, hp_v B a1), (2, .int v2)] → hp_S B D s0 Si H locs → W p l e ({ frames := 3, cells := 0, slots := 0, locals := 192 } : Room) s m args below meth c H locs 0 0 (MQ below (hp_Qi B D s0 (fun r S' => S' = Si ∧ Q r)) args s 0 0 (fun q => B < q)) (F0 m 3 ls []) := by
      intro N
      induction N with
      | zero =>
        intro v2 H locs ls hN
        exact absurd hN (Nat.not_lt_zero _)
      | succ N ih3 =>
        intro v2 H locs ls hN hI hl hR
        have h := hst v2 hI
        obtain ⟨K3, hKe3⟩ : ∃ K : Int32 → Prop, K = (fun v2' => I3 v2' ∧ μ3 v2' < μ3 v2) := ⟨_, rfl⟩
        rw [← hKe3] at h
        have hK3 : ∀ (v2' : Int32) (H : Heap) (locs : List Loc) (ls : Array Slot), K3 v2' → lv_has ls 3 [(0, hp_v B o), (1, hp_v B a1), (2, .int (v2'))] → hp_S B D s0 Si H locs → W p l e ({ frames := 3, cells := 0, slots := 0, locals := 192 } : Room) s m args below meth c H locs 0 0 (MQ below (hp_Qi B D s0 (fun r S' => S' = Si ∧ Q r)) args s 0 0 (fun q => B < q)) (F0 m 3 ls []) := by
          intro v2' H locs ls hI hl hR
          rw [hKe3] at hI
          exact ih3 v2' H locs ls (Nat.lt_of_lt_of_le hI.2 (Nat.le_of_lt_succ hN)) hI.1 hl hR
        unfold wb_X4_latest_3 at h
        refine hp_iload_n E hl 2 rfl 2 rfl dX4_latest_3 (rfl : 3 + 1 = 4) ?_
        refine hp_if_lt E dX4_latest_4 (rfl : 4 + 3 = 7) (tgt := 22) (by decide) (fun hb => ?_) (fun hb => ?_)
        · have h := h.1 hb
          exact b22 _ _ _ _ h (lv_sub hl [2] rfl) hR
        · have h := h.2 hb
          refine hp_aload_n E hl 0 rfl 0 rfl dX4_latest_7 (rfl : 7 + 1 = 8) ?_
          refine hp_aload_n E hl 1 rfl 1 rfl dX4_latest_8 (rfl : 8 + 1 = 9) ?_
          refine hp_iload_n E hl 2 rfl 2 rfl dX4_latest_9 (rfl : 9 + 1 = 10) ?_
          refine hp_fi (hp_rV E hR hl (m_X4_isGood G _ _ _ _ _ hc0 h) hc0 (ci := 3) rfl rfl q1029 q1031 qs21 q79 q1032 nf_X4_isGood ⟨Nat.le_of_ble_eq_true rfl, Nat.le_of_ble_eq_true rfl⟩ (rest := []) rfl (Nat.le_of_ble_eq_true rfl) dX4_latest_10 ⟨Nat.le_of_ble_eq_true rfl, Nat.le_of_ble_eq_true rfl⟩) hR (rfl : 10 + 3 = 13) (fun z301 Sx H locs hq hR => ?_)
          obtain ⟨hSx, h⟩ := hq
          rw [hSx] at hR
          refine hp_if_ne E dX4_latest_13 (rfl : 13 + 3 = 16) (tgt := 22) (by decide) (fun hb => ?_) (fun hb => ?_)
          · have h := h.1 hb
            refine hp_iinc E hl (v2 + (-1 : Int32)) 2 (lv' := [(0, hp_v B o), (1, hp_v B a1)]) dX4_latest_16 (rfl : 16 + 3 = 19) rfl (by first | rfl | (congr 1)) (by decide) (by simp [hp_vc, hp_ci, hp_cj]) (fun ls hl => ?_)
            refine hp_goto E (tgt := 3) dX4_latest_19 (by decide) ?_
            exact hK3 _ _ _ _ h (lv_sub hl [1, 2, 0] rfl) hR
          · have h := h.2 hb
            exact b22 _ _ _ _ h (lv_sub hl [2] rfl) hR
    exact key3 (μ3 v2 + 1) v2 H locs ls (Nat.lt_succ_self _) hI hl hR
  unfold wp_X4_latest at h
  refine hp_bipush E (79 : Int32) (by decide) dX4_latest_0 (rfl : 0 + 2 = 2) ?_
  refine hp_istore_n E hl 2 rfl (lv' := [(0, hp_v B o), (1, hp_v B a1)]) dX4_latest_2 (rfl : 2 + 1 = 3) (by decide) (by simp [hp_vc, hp_ci, hp_cj]) (fun ls hl => ?_)
  exact b3 _ _ _ _ h (lv_sub hl [1, 2, 0] rfl) hR
def wb_X1_riskOf_141 (o : Nat) (a1 : Nat) (t0 : Int64) (S : hp_St) (Q : Int64 → Prop) : Prop := Q t0
def wb_X1_riskOf_88 (o : Nat) (a1 : Nat) (j2 : Int64) (v4 : Int32) (v5 : Int32) (S : hp_St) (K15 : Int64 → Int32 → Int32 → Prop) (Q : Int64 → Prop) : Prop := K15 j2 v4 (v5 + (1 : Int32))
def wb_X1_riskOf_86 (o : Nat) (a1 : Nat) (j2 : Int64) (v5 : Int32) (t0 : Int32) (S : hp_St) (K15 : Int64 → Int32 → Int32 → Prop) (Q : Int64 → Prop) : Prop := wb_X1_riskOf_88 o a1 j2 t0 v5 S K15 Q
def wb_X1_riskOf_15 (o : Nat) (a1 : Nat) (j2 : Int64) (v4 : Int32) (v5 : Int32) (S : hp_St) (K15 : Int64 → Int32 → Int32 → Prop) (Q : Int64 → Prop) : Prop := (st_C S (st_R S o 9) = 17) ∧ wp_J2_size (st_R S o 9) S (fun z1502 => (((v5 < z1502) → wp_J2_get (st_R S o 9) v5 S (fun z1503 => (st_C S z1503 = 11 ∨ st_C S z1503 = 12) ∧ ((((st_R S z1503 4) = a1) → hp_virt (fun Kc1506 => (st_C S z1503 = 11 → wp_X11_second z1503 S Kc1506) ∧ (st_C S z1503 = 12 → wp_X12_second z1503 S Kc1506)) (fun z1505 => (((z1505 = 0) → (((v4 = (-1 : Int32)) → wb_X1_riskOf_86 o a1 (j2 + ((st_I S z1503 2).toInt64)) v5 (st_I S z1503 1) S K15 Q) ∧ ((¬ (v4 = (-1 : Int32))) → wb_X1_riskOf_86 o a1 (j2 + ((st_I S z1503 2).toInt64)) v5 v4 S K15 Q))) ∧ ((¬ (z1505 = 0)) → wb_X1_riskOf_88 o a1 j2 v4 v5 S K15 Q)))) ∧ ((¬ ((st_R S z1503 4) = a1)) → wb_X1_riskOf_88 o a1 j2 v4 v5 S K15 Q)))) ∧ ((¬ (v5 < z1502)) → ((((lg_cmp j2 (0 : Int64)) = 0) → wb_X1_riskOf_141 o a1 (0 : Int64) S Q) ∧ ((¬ ((lg_cmp j2 (0 : Int64)) = 0)) → (st_C S a1 = 10) ∧ (st_C S (st_R S o 11) = 55) ∧ (vp_in (st_I S a1 2) (st_L S (st_R S o 11))) ∧ wp_X10_age a1 (st_I S o 4) S (fun z1510 => wp_X1_group z1510 S (fun z1511 => (st_C S (st_R S (st_R S o 11) (st_I S a1 2).toNatClampNeg) = 50) ∧ (vp_in z1511 (st_L S (st_R S (st_R S o 11) (st_I S a1 2).toNatClampNeg))) ∧ wb_X1_riskOf_141 o a1 ((j2 * (((1000 : Int32) - (st_I S (st_R S (st_R S o 11) (st_I S a1 2).toNatClampNeg) z1511.toNatClampNeg)).toInt64)) * (((st_I S o 4) - v4).toInt64)) S Q)))))))
def wl_X1_riskOf_15 (o : Nat) (a1 : Nat) (j2 : Int64) (v4 : Int32) (v5 : Int32) (S : hp_St) (Q : Int64 → Prop) : Prop := ∃ (I : Int64 → Int32 → Int32 → Prop) (μ : Int64 → Int32 → Int32 → Nat), I j2 v4 v5 ∧ ∀ (j2 : Int64) (v4 : Int32) (v5 : Int32), I j2 v4 v5 → wb_X1_riskOf_15 o a1 j2 v4 v5 S (fun j2' v4' v5' => I j2' v4' v5' ∧ μ j2' v4' v5' < μ j2 v4 v5) Q
def wp_X1_riskOf (o : Nat) (a1 : Nat) (S : hp_St) (Q : Int64 → Prop) : Prop := (st_C S (st_R S o 13) = 4) ∧ wp_X4_latest (st_R S o 13) a1 S (fun z2 => wl_X1_riskOf_15 o a1 (0 : Int64) z2 (0 : Int32) S Q)
theorem nf_X1_riskOf : hp_nf yX1_riskOf 1 = true := by decide +kernel
set_option maxHeartbeats 4000000 in
theorem m_X1_riskOf {l : Launch} {B : Nat} {D : va_G} {s0 : State} {b0 : Nat} (G : hp_G l B D s0 b0) (o : Nat) (a1 : Nat) (Si : hp_St) (Q : Int64 → Prop) (hc0 : st_C Si o = 1) (h : wp_X1_riskOf o a1 Si Q) : hp_M l B D s0 yX1_riskOf cX1_riskOf 7 (some .long) 5 320 0 0 [hp_v B o, hp_v B a1] Si (hp_Ql B D s0 (fun r S' => S' = Si ∧ Q r)) := by
  refine hp_start G (by decide +kernel) rfl rfl (lv := [(0, hp_v B o), (1, hp_v B a1)]) (by simp [lg_sl, hp_vc, hp_ci, hp_cj]) (by simp [lv_args, hp_vc, hp_ci, hp_cj]) ?_
  intro p e s m args below meth c E ls hl hR
  generalize hH : s.heap = H at hR ⊢
  generalize hLo : ([] : List Loc) = locs at hR ⊢
  have b141 : ∀ (t0 : Int64) (H : Heap) (locs : List Loc) (ls : Array Slot), wb_X1_riskOf_141 o a1 t0 Si Q → lv_has ls 7 [] → hp_S B D s0 Si H locs → W p l e ({ frames := 5, cells := 0, slots := 0, locals := 320 } : Room) s m args below meth c H locs 0 0 (MQ below (hp_Ql B D s0 (fun r S' => S' = Si ∧ Q r)) args s 0 0 (fun q => B < q)) (F0 m 141 ls [.long t0]) := by
    intro t0 H locs ls h hl hR
    unfold wb_X1_riskOf_141 at h
    exact hp_lret E hR ⟨rfl, h⟩ (Nat.le_of_ble_eq_true rfl) (Nat.le_of_ble_eq_true rfl) dX1_riskOf_141
  have b15 : ∀ (j2 : Int64) (v4 : Int32) (v5 : Int32) (H : Heap) (locs : List Loc) (ls : Array Slot), wl_X1_riskOf_15 o a1 j2 v4 v5 Si Q → lv_has ls 7 [(0, hp_v B o), (1, hp_v B a1), (2, .long j2), (4, .int v4), (5, .int v5)] → hp_S B D s0 Si H locs → W p l e ({ frames := 5, cells := 0, slots := 0, locals := 320 } : Room) s m args below meth c H locs 0 0 (MQ below (hp_Ql B D s0 (fun r S' => S' = Si ∧ Q r)) args s 0 0 (fun q => B < q)) (F0 m 15 ls []) := by
    intro j2 v4 v5 H locs ls h hl hR
    obtain ⟨I15, μ15, hI, hst⟩ := h
    have key15 : ∀ (N : Nat) (j2 : Int64) (v4 : Int32) (v5 : Int32) (H : Heap) (locs : List Loc) (ls : Array Slot), μ15 j2 v4 v5 < N → I15 j2 v4 v5 → lv_has ls 7 [(0, hp_v B o), (1, hp_v B a1), (2, .long j2), (4, .int v4), (5, .int v5)] → hp_S B D s0 Si H locs → W p l e ({ frames := 5, cells := 0, slots := 0, locals := 320 } : Room) s m args below meth c H locs 0 0 (MQ below (hp_Ql B D s0 (fun r S' => S' = Si ∧ Q r)) args s 0 0 (fun q => B < q)) (F0 m 15 ls []) := by
      intro N
      induction N with
      | zero =>
        intro j2 v4 v5 H locs ls hN
        exact absurd hN (Nat.not_lt_zero _)
      | succ N ih15 =>
        intro j2 v4 v5 H locs ls hN hI hl hR
        have h := hst j2 v4 v5 hI
        obtain ⟨K15, hKe15⟩ : ∃ K : Int64 → Int32 → Int32 → Prop, K = (fun j2' v4' v5' => I15 j2' v4' v5' ∧ μ15 j2' v4' v5' < μ15 j2 v4 v5) := ⟨_, rfl⟩
        rw [← hKe15] at h
        have hK15 : ∀ (j2' : Int64) (v4' : Int32) (v5' : Int32) (H : Heap) (locs : List Loc) (ls : Array Slot), K15 j2' v4' v5' → lv_has ls 7 [(0, hp_v B o), (1, hp_v B a1), (2, .long (j2')), (4, .int (v4')), (5, .int (v5'))] → hp_S B D s0 Si H locs → W p l e ({ frames := 5, cells := 0, slots := 0, locals := 320 } : Room) s m args below meth c H locs 0 0 (MQ below (hp_Ql B D s0 (fun r S' => S' = Si ∧ Q r)) args s 0 0 (fun q => B < q)) (F0 m 15 ls []) := by
          intro j2' v4' v5' H locs ls hI hl hR
          rw [hKe15] at hI
          exact ih15 j2' v4' v5' H locs ls (Nat.lt_of_lt_of_le hI.2 (Nat.le_of_lt_succ hN)) hI.1 hl hR
        have b88 : ∀ (j2 : Int64) (v4 : Int32) (v5 : Int32) (H : Heap) (locs : List Loc) (ls : Array Slot), wb_X1_riskOf_88 o a1 j2 v4 v5 Si K15 Q → lv_has ls 7 [(0, hp_v B o), (1, hp_v B a1), (2, .long j2), (4, .int v4), (5, .int v5)] → hp_S B D s0 Si H locs → W p l e ({ frames := 5, cells := 0, slots := 0, locals := 320 } : Room) s m args below meth c H locs 0 0 (MQ below (hp_Ql B D s0 (fun r S' => S' = Si ∧ Q r)) args s 0 0 (fun q => B < q)) (F0 m 88 ls []) := by
          intro j2 v4 v5 H locs ls h hl hR
          unfold wb_X1_riskOf_88 at h
          refine hp_iinc E hl (v5 + (1 : Int32)) 4 (lv' := [(0, hp_v B o), (1, hp_v B a1), (2, .long j2), (4, .int v4)]) dX1_riskOf_88 (rfl : 88 + 3 = 91) rfl (by first | rfl | (congr 1)) (by decide) rfl (fun ls hl => ?_)
          refine hp_goto E (tgt := 15) dX1_riskOf_91 (by decide) ?_
          exact hK15 _ _ _ _ _ _ h (lv_sub hl [1, 2, 3, 4, 0] rfl) hR
        have b86 : ∀ (j2 : Int64) (v5 : Int32) (t0 : Int32) (H : Heap) (locs : List Loc) (ls : Array Slot), wb_X1_riskOf_86 o a1 j2 v5 t0 Si K15 Q → lv_has ls 7 [(0, hp_v B o), (1, hp_v B a1), (2, .long j2), (5, .int v5)] → hp_S B D s0 Si H locs → W p l e ({ frames := 5, cells := 0, slots := 0, locals := 320 } : Room) s m args below meth c H locs 0 0 (MQ below (hp_Ql B D s0 (fun r S' => S' = Si ∧ Q r)) args s 0 0 (fun q => B < q)) (F0 m 86 ls [.int t0]) := by
          intro j2 v5 t0 H locs ls h hl hR
          unfold wb_X1_riskOf_86 at h
          refine hp_istore E hl 4 (lv' := [(0, hp_v B o), (1, hp_v B a1), (2, .long j2), (5, .int v5)]) dX1_riskOf_86 (rfl : 86 + 2 = 88) (by decide) rfl (fun ls hl => ?_)
          exact b88 _ _ _ _ _ _ h (lv_sub hl [1, 2, 3, 0, 4] rfl) hR
        unfold wb_X1_riskOf_15 at h
        refine hp_iload E hl 4 rfl dX1_riskOf_15 (rfl : 15 + 2 = 17) ?_
        refine hp_aload_n E hl 0 rfl 0 rfl dX1_riskOf_17 (rfl : 17 + 1 = 18) ?_
        refine hp_getR E hR in_X1 hc0 rfl 9 (Nat.le_of_ble_eq_true rfl) rfl q329 (fun _ h => h) dX1_riskOf_18 (rfl : 18 + 3 = 21) ?_
        obtain ⟨hc1501, h⟩ := h
        refine hp_fi (hp_rV E hR hl (m_J2_size G _ _ _ hc1501 h) hc1501 (ci := 16) rfl rfl q691 q545 q546 q78 q547 nf_J2_size ⟨Nat.le_of_ble_eq_true rfl, Nat.le_of_ble_eq_true rfl⟩ (rest := [.int v5]) rfl (Nat.le_of_ble_eq_true rfl) dX1_riskOf_21 ⟨Nat.le_of_ble_eq_true rfl, Nat.le_of_ble_eq_true rfl⟩) hR (rfl : 21 + 3 = 24) (fun z1502 Sx H locs hq hR => ?_)
        obtain ⟨hSx, h⟩ := hq
        rw [hSx] at hR
        refine hp_icmp_ge E dX1_riskOf_24 (rfl : 24 + 3 = 27) (tgt := 94) (by decide) (fun hb => ?_) (fun hb => ?_)
        · have h := h.1 hb
          refine hp_aload_n E hl 0 rfl 0 rfl dX1_riskOf_27 (rfl : 27 + 1 = 28) ?_
          refine hp_getR E hR in_X1 hc0 rfl 9 (Nat.le_of_ble_eq_true rfl) rfl q329 (fun _ h => h) dX1_riskOf_28 (rfl : 28 + 3 = 31) ?_
          refine hp_iload E hl 4 rfl dX1_riskOf_31 (rfl : 31 + 2 = 33) ?_
          refine hp_fa (hp_rV E hR hl (m_J2_get G _ _ _ _ hc1501 h) hc1501 (ci := 16) rfl rfl q727 q728 q729 q78 q730 nf_J2_get ⟨Nat.le_of_ble_eq_true rfl, Nat.le_of_ble_eq_true rfl⟩ (rest := []) rfl (Nat.le_of_ble_eq_true rfl) dX1_riskOf_33 ⟨Nat.le_of_ble_eq_true rfl, Nat.le_of_ble_eq_true rfl⟩) hR (rfl : 33 + 3 = 36) (fun z1503 Sx H locs hq hR => ?_)
          obtain ⟨hSx, h⟩ := hq
          rw [hSx] at hR
          obtain ⟨hc1504, h⟩ := h
          refine hp_or2 hc1504 (fun hc kk => hp_castS E hR hc (ci := 10) rfl q778 dX1_riskOf_36 (rfl : 36 + 3 = 39) kk) (fun hc kk => hp_castY E hR hc (ci := 11) rfl q778 q1724 dX1_riskOf_36 (rfl : 36 + 3 = 39) kk) ?_
          refine hp_astore E hl 6 (lv' := [(0, hp_v B o), (1, hp_v B a1), (2, .long j2), (4, .int v4), (5, .int v5)]) dX1_riskOf_39 (rfl : 39 + 2 = 41) (by decide) rfl (fun ls hl => ?_)
          refine hp_aload E hl 0 rfl dX1_riskOf_41 (rfl : 41 + 2 = 43) ?_
          refine hp_or2 hc1504 (fun hc kk => hp_getR E hR in_X11 hc rfl 4 (Nat.le_of_ble_eq_true rfl) rfl q798 (fun _ h => h) dX1_riskOf_43 (rfl : 43 + 3 = 46) kk) (fun hc kk => hp_getR E hR in_X12 hc rfl 4 (Nat.le_of_ble_eq_true rfl) rfl q798 (fun _ h => h) dX1_riskOf_43 (rfl : 43 + 3 = 46) kk) ?_
          refine hp_aload_n E hl 1 rfl 2 rfl dX1_riskOf_46 (rfl : 46 + 1 = 47) ?_
          refine hp_acmp_ne E dX1_riskOf_47 (rfl : 47 + 3 = 50) (tgt := 88) (by decide) (fun hb => ?_) (fun hb => ?_)
          · have h := h.1 hb
            refine hp_aload E hl 0 rfl dX1_riskOf_50 (rfl : 50 + 2 = 52) ?_
            (try unfold hp_virt at h)
            refine hp_fa (hp_el2 hc1504 (fun hc => hp_rV E hR hl (m_X11_second G _ _ _ hc (h.1 hc)) hc (ci := 10) rfl rfl q1149 q1014 q1015 q97 q1020 nf_X11_second ⟨Nat.le_of_ble_eq_true rfl, Nat.le_of_ble_eq_true rfl⟩ (rest := []) rfl (Nat.le_of_ble_eq_true rfl) dX1_riskOf_52 ⟨Nat.le_of_ble_eq_true rfl, Nat.le_of_ble_eq_true rfl⟩) (fun hc => hp_rU E hR hl (m_X12_second G _ _ _ hc (h.2 hc)) hc (ci := 11) rfl q1149 q1018 q1017 q98 q1019 q1016 q1014 q1020 nf_X11_second ⟨Nat.le_of_ble_eq_true rfl, Nat.le_of_ble_eq_true rfl⟩ (rest := []) rfl (Nat.le_of_ble_eq_true rfl) dX1_riskOf_52 ⟨Nat.le_of_ble_eq_true rfl, Nat.le_of_ble_eq_true rfl⟩)) hR (rfl : 52 + 3 = 55) (fun z1505 Sx H locs hq hR => ?_)
            obtain ⟨hSx, h⟩ := hq
            rw [hSx] at hR
            refine hp_ifnull E dX1_riskOf_55 (rfl : 55 + 3 = 58) (tgt := 61) (by decide) (fun hb => ?_) (fun hb => ?_)
            · have h := h.1 hb
              refine hp_lload_n E hl 2 rfl 3 rfl dX1_riskOf_61 (rfl : 61 + 1 = 62) ?_
              refine hp_aload E hl 0 rfl dX1_riskOf_62 (rfl : 62 + 2 = 64) ?_
              refine hp_or2 hc1504 (fun hc kk => hp_getI E hR in_X11 hc rfl 2 (Nat.le_of_ble_eq_true rfl) rfl q791 (fun _ h => h) dX1_riskOf_64 (rfl : 64 + 3 = 67) kk) (fun hc kk => hp_getI E hR in_X12 hc rfl 2 (Nat.le_of_ble_eq_true rfl) rfl q791 (fun _ h => h) dX1_riskOf_64 (rfl : 64 + 3 = 67) kk) ?_
              refine hp_i2l E dX1_riskOf_67 (rfl : 67 + 1 = 68) ?_
              refine hp_ladd E dX1_riskOf_68 (rfl : 68 + 1 = 69) ?_
              refine hp_lstore_n E hl 2 rfl (lv' := [(6, hp_v B z1503), (0, hp_v B o), (1, hp_v B a1), (4, .int v4), (5, .int v5)]) dX1_riskOf_69 (rfl : 69 + 1 = 70) (by decide) (by simp [hp_vc, hp_ci, hp_cj]) (fun ls hl => ?_)
              refine hp_iload E hl 4 rfl dX1_riskOf_70 (rfl : 70 + 2 = 72) ?_
              refine hp_iconst E (-1 : Int32) (by decide) dX1_riskOf_72 (rfl : 72 + 1 = 73) ?_
              refine hp_icmp_ne E dX1_riskOf_73 (rfl : 73 + 3 = 76) (tgt := 84) (by decide) (fun hb => ?_) (fun hb => ?_)
              · have h := h.1 hb
                refine hp_aload E hl 1 rfl dX1_riskOf_76 (rfl : 76 + 2 = 78) ?_
                refine hp_or2 hc1504 (fun hc kk => hp_getI E hR in_X11 hc rfl 1 (Nat.le_of_ble_eq_true rfl) rfl q789 (fun _ h => h) dX1_riskOf_78 (rfl : 78 + 3 = 81) kk) (fun hc kk => hp_getI E hR in_X12 hc rfl 1 (Nat.le_of_ble_eq_true rfl) rfl q789 (fun _ h => h) dX1_riskOf_78 (rfl : 78 + 3 = 81) kk) ?_
                refine hp_goto E (tgt := 86) dX1_riskOf_81 (by decide) ?_
                exact b86 _ _ _ _ _ _ h (lv_sub hl [2, 3, 0, 5] rfl) hR
              · have h := h.2 hb
                refine hp_iload E hl 4 rfl dX1_riskOf_84 (rfl : 84 + 2 = 86) ?_
                exact b86 _ _ _ _ _ _ h (lv_sub hl [2, 3, 0, 5] rfl) hR
            · have h := h.2 hb
              refine hp_goto E (tgt := 88) dX1_riskOf_58 (by decide) ?_
              exact b88 _ _ _ _ _ _ h (lv_sub hl [1, 2, 3, 4, 5] rfl) hR
          · have h := h.2 hb
            exact b88 _ _ _ _ _ _ h (lv_sub hl [1, 2, 3, 4, 5] rfl) hR
        · have h := h.2 hb
          refine hp_lload_n E hl 2 rfl 2 rfl dX1_riskOf_94 (rfl : 94 + 1 = 95) ?_
          refine hp_lconst E (0 : Int64) (by decide) dX1_riskOf_95 (rfl : 95 + 1 = 96) ?_
          refine hp_lcmp E dX1_riskOf_96 (rfl : 96 + 1 = 97) ?_
          refine hp_if_ne E dX1_riskOf_97 (rfl : 97 + 3 = 100) (tgt := 104) (by decide) (fun hb => ?_) (fun hb => ?_)
          · have h := h.1 hb
            refine hp_lconst E (0 : Int64) (by decide) dX1_riskOf_100 (rfl : 100 + 1 = 101) ?_
            refine hp_goto E (tgt := 141) dX1_riskOf_101 (by decide) ?_
            exact b141 _ _ _ _ h (lv_sub hl [] rfl) hR
          · have h := h.2 hb
            refine hp_lload_n E hl 2 rfl 2 rfl dX1_riskOf_104 (rfl : 104 + 1 = 105) ?_
            refine hp_sipush E (1000 : Int32) (by decide) dX1_riskOf_105 (rfl : 105 + 3 = 108) ?_
            refine hp_aload_n E hl 0 rfl 0 rfl dX1_riskOf_108 (rfl : 108 + 1 = 109) ?_
            refine hp_getR E hR in_X1 hc0 rfl 11 (Nat.le_of_ble_eq_true rfl) rfl q333 (fun _ h => h) dX1_riskOf_109 (rfl : 109 + 3 = 112) ?_
            refine hp_aload_n E hl 1 rfl 1 rfl dX1_riskOf_112 (rfl : 112 + 1 = 113) ?_
            obtain ⟨hc1507, h⟩ := h
            refine hp_getIN E hR in_X10 hc1507 rfl 2 (Nat.le_of_ble_eq_true rfl) rfl q710 (fun _ h => h) dX1_riskOf_113 (rfl : 113 + 3 = 116) ?_
            obtain ⟨hc1508, h⟩ := h
            obtain ⟨hi1509, h⟩ := h
            refine hp_aald E hR (Or.inr (Or.inl hc1508)) hi1509 dX1_riskOf_116 (rfl : 116 + 1 = 117) ?_
            refine hp_aload_n E hl 1 rfl 1 rfl dX1_riskOf_117 (rfl : 117 + 1 = 118) ?_
            refine hp_aload_n E hl 0 rfl 0 rfl dX1_riskOf_118 (rfl : 118 + 1 = 119) ?_
            refine hp_getI E hR in_X1 hc0 rfl 4 (Nat.le_of_ble_eq_true rfl) rfl q320 (fun _ h => h) dX1_riskOf_119 (rfl : 119 + 3 = 122) ?_
            refine hp_fi (hp_rV E hR hl (m_X10_age G _ _ _ _ hc1507 h) hc1507 (ci := 9) rfl rfl q777 q755 q756 q95 q757 nf_X10_age ⟨Nat.le_of_ble_eq_true rfl, Nat.le_of_ble_eq_true rfl⟩ (rest := [hp_v B (st_R Si (st_R Si o 11) (st_I Si a1 2).toNatClampNeg), .int (1000 : Int32), .long j2]) rfl (Nat.le_of_ble_eq_true rfl) dX1_riskOf_122 ⟨Nat.le_of_ble_eq_true rfl, Nat.le_of_ble_eq_true rfl⟩) hR (rfl : 122 + 3 = 125) (fun z1510 Sx H locs hq hR => ?_)
            obtain ⟨hSx, h⟩ := hq
            rw [hSx] at hR
            refine hp_fi (hp_rS E hR hl (m_X1_group G _ _ _ h) q1098 q1069 q73 q1070 nf_X1_group ⟨Nat.le_of_ble_eq_true rfl, Nat.le_of_ble_eq_true rfl⟩ (rest := [hp_v B (st_R Si (st_R Si o 11) (st_I Si a1 2).toNatClampNeg), .int (1000 : Int32), .long j2]) rfl (Nat.le_of_ble_eq_true rfl) dX1_riskOf_125 ⟨Nat.le_of_ble_eq_true rfl, Nat.le_of_ble_eq_true rfl⟩) hR (rfl : 125 + 3 = 128) (fun z1511 Sx H locs hq hR => ?_)
            obtain ⟨hSx, h⟩ := hq
            rw [hSx] at hR
            obtain ⟨hc1512, h⟩ := h
            obtain ⟨hi1513, h⟩ := h
            refine hp_iald E hR hc1512 hi1513 dX1_riskOf_128 (rfl : 128 + 1 = 129) ?_
            refine hp_isub E dX1_riskOf_129 (rfl : 129 + 1 = 130) ?_
            refine hp_i2l E dX1_riskOf_130 (rfl : 130 + 1 = 131) ?_
            refine hp_lmul E dX1_riskOf_131 (rfl : 131 + 1 = 132) ?_
            refine hp_aload_n E hl 0 rfl 0 rfl dX1_riskOf_132 (rfl : 132 + 1 = 133) ?_
            refine hp_getI E hR in_X1 hc0 rfl 4 (Nat.le_of_ble_eq_true rfl) rfl q320 (fun _ h => h) dX1_riskOf_133 (rfl : 133 + 3 = 136) ?_
            refine hp_iload E hl 3 rfl dX1_riskOf_136 (rfl : 136 + 2 = 138) ?_
            refine hp_isub E dX1_riskOf_138 (rfl : 138 + 1 = 139) ?_
            refine hp_i2l E dX1_riskOf_139 (rfl : 139 + 1 = 140) ?_
            refine hp_lmul E dX1_riskOf_140 (rfl : 140 + 1 = 141) ?_
            exact b141 _ _ _ _ h (lv_sub hl [] rfl) hR
    exact key15 (μ15 j2 v4 v5 + 1) j2 v4 v5 H locs ls (Nat.lt_succ_self _) hI hl hR
  unfold wp_X1_riskOf at h
  refine hp_lconst E (0 : Int64) (by decide) dX1_riskOf_0 (rfl : 0 + 1 = 1) ?_
  refine hp_lstore_n E hl 2 rfl (lv' := [(0, hp_v B o), (1, hp_v B a1)]) dX1_riskOf_1 (rfl : 1 + 1 = 2) (by decide) (by simp [hp_vc, hp_ci, hp_cj]) (fun ls hl => ?_)
  refine hp_aload_n E hl 0 rfl 1 rfl dX1_riskOf_2 (rfl : 2 + 1 = 3) ?_
  refine hp_getR E hR in_X1 hc0 rfl 13 (Nat.le_of_ble_eq_true rfl) rfl q336 (fun _ h => h) dX1_riskOf_3 (rfl : 3 + 3 = 6) ?_
  refine hp_aload_n E hl 1 rfl 2 rfl dX1_riskOf_6 (rfl : 6 + 1 = 7) ?_
  obtain ⟨hc1, h⟩ := h
  refine hp_fi (hp_rV E hR hl (m_X4_latest G _ _ _ _ hc1 h) hc1 (ci := 3) rfl rfl q1145 q1146 q1147 q79 q1148 nf_X4_latest ⟨Nat.le_of_ble_eq_true rfl, Nat.le_of_ble_eq_true rfl⟩ (rest := []) rfl (Nat.le_of_ble_eq_true rfl) dX1_riskOf_7 ⟨Nat.le_of_ble_eq_true rfl, Nat.le_of_ble_eq_true rfl⟩) hR (rfl : 7 + 3 = 10) (fun z2 Sx H locs hq hR => ?_)
  obtain ⟨hSx, h⟩ := hq
  rw [hSx] at hR
  refine hp_istore E hl 4 (lv' := [(2, .long (0 : Int64)), (0, hp_v B o), (1, hp_v B a1)]) dX1_riskOf_10 (rfl : 10 + 2 = 12) (by decide) rfl (fun ls hl => ?_)
  refine hp_iconst E (0 : Int32) (by decide) dX1_riskOf_12 (rfl : 12 + 1 = 13) ?_
  refine hp_istore E hl 5 (lv' := [(4, .int z2), (2, .long (0 : Int64)), (0, hp_v B o), (1, hp_v B a1)]) dX1_riskOf_13 (rfl : 13 + 2 = 15) (by decide) rfl (fun ls hl => ?_)
  exact b15 _ _ _ _ _ _ h (lv_sub hl [3, 4, 2, 1, 0] rfl) hR
def wb_X1_look_125 (o : Nat) (a1 : Int32) (v4 : Int32) (S : hp_St) (Q : Int32 → hp_St → Prop) : Prop := Q v4 S
def wb_X1_look_109 (o : Nat) (a1 : Int32) (v2 : Int32) (v3 : Int32) (v4 : Int32) (v5 : Int32) (S : hp_St) (K22 : Int32 → Int32 → Prop) (K28 : Int32 → Int32 → Prop) (Q : Int32 → hp_St → Prop) : Prop := K28 v4 (v5 + (1 : Int32))
def wb_X1_look_105 (o : Nat) (a1 : Int32) (v2 : Int32) (v3 : Int32) (v5 : Int32) (S : hp_St) (K22 : Int32 → Int32 → Prop) (K28 : Int32 → Int32 → Prop) (Q : Int32 → hp_St → Prop) : Prop := wb_X1_look_109 o a1 v2 v3 v5 v5 S K22 K28 Q
def wb_X1_look_28 (o : Nat) (a1 : Int32) (v2 : Int32) (v3 : Int32) (v4 : Int32) (v5 : Int32) (S : hp_St) (K22 : Int32 → Int32 → Prop) (K28 : Int32 → Int32 → Prop) (Q : Int32 → hp_St → Prop) : Prop := (st_C S (st_R S o 8) = 17) ∧ wp_J2_size (st_R S o 8) S (fun z2802 => (((v5 < z2802) → (st_C S (st_R S o 13) = 4) ∧ (st_C S (st_R S (st_R S o 13) 0) = 50) ∧ (vp_in v5 (st_L S (st_R S (st_R S o 13) 0))) ∧ ((((st_I S (st_R S (st_R S o 13) 0) v5.toNatClampNeg) = (-1 : Int32)) → (((((v3 >>> (v5 &&& 31)) &&& (1 : Int32)) = 0) → (((v4 = (-1 : Int32)) → wb_X1_look_105 o a1 v2 v3 v5 S K22 K28 Q) ∧ ((¬ (v4 = (-1 : Int32))) → wp_J2_get (st_R S o 8) v5 S (fun z2806 => (st_C S z2806 = 10) ∧ wp_X1_riskOf o z2806 S (fun z2808 => wp_J2_get (st_R S o 8) v4 S (fun z2809 => (st_C S z2809 = 10) ∧ wp_X1_riskOf o z2809 S (fun z2811 => ((((lg_cmp z2808 z2811) ≤ 0) → wb_X1_look_109 o a1 v2 v3 v4 v5 S K22 K28 Q) ∧ ((¬ ((lg_cmp z2808 z2811) ≤ 0)) → wb_X1_look_105 o a1 v2 v3 v5 S K22 K28 Q))))))))) ∧ ((¬ (((v3 >>> (v5 &&& 31)) &&& (1 : Int32)) = 0)) → wb_X1_look_109 o a1 v2 v3 v4 v5 S K22 K28 Q))) ∧ ((¬ ((st_I S (st_R S (st_R S o 13) 0) v5.toNatClampNeg) = (-1 : Int32))) → wb_X1_look_109 o a1 v2 v3 v4 v5 S K22 K28 Q))) ∧ ((¬ (v5 < z2802)) → (((v4 = (-1 : Int32)) → wb_X1_look_125 o a1 v4 S Q) ∧ ((¬ (v4 = (-1 : Int32))) → (((v2 = 0) → wb_X1_look_125 o a1 v4 S Q) ∧ ((¬ (v2 = 0)) → K22 (v2 + (-1 : Int32)) (v3 ||| ((1 : Int32) <<< (v4 &&& 31))))))))))
def wl_X1_look_28 (o : Nat) (a1 : Int32) (v2 : Int32) (v3 : Int32) (v4 : Int32) (v5 : Int32) (S : hp_St) (K22 : Int32 → Int32 → Prop) (Q : Int32 → hp_St → Prop) : Prop := ∃ (I : Int32 → Int32 → Prop) (μ : Int32 → Int32 → Nat), I v4 v5 ∧ ∀ (v4 : Int32) (v5 : Int32), I v4 v5 → wb_X1_look_28 o a1 v2 v3 v4 v5 S K22 (fun v4' v5' => I v4' v5' ∧ μ v4' v5' < μ v4 v5) Q
def wb_X1_look_22 (o : Nat) (a1 : Int32) (v2 : Int32) (v3 : Int32) (S : hp_St) (K22 : Int32 → Int32 → Prop) (Q : Int32 → hp_St → Prop) : Prop := wl_X1_look_28 o a1 v2 v3 (-1 : Int32) (0 : Int32) S K22 Q
def wl_X1_look_22 (o : Nat) (a1 : Int32) (v2 : Int32) (v3 : Int32) (S : hp_St) (Q : Int32 → hp_St → Prop) : Prop := ∃ (I : Int32 → Int32 → Prop) (μ : Int32 → Int32 → Nat), I v2 v3 ∧ ∀ (v2 : Int32) (v3 : Int32), I v2 v3 → wb_X1_look_22 o a1 v2 v3 S (fun v2' v3' => I v2' v3' ∧ μ v2' v3' < μ v2 v3) Q
def wp_X1_look (o : Nat) (a1 : Int32) (S : hp_St) (Q : Int32 → hp_St → Prop) : Prop := (st_C S (st_R S o 13) = 4) ∧ wp_X4_know (st_R S o 13) (st_I S o 4) S (fun z2 S3 => hp_mono S S3 → (((a1 < 0) → Q (-1 : Int32) S3) ∧ ((¬ (a1 < 0)) → wl_X1_look_22 o a1 a1 (0 : Int32) S3 Q)))
theorem nf_X1_look : hp_nf yX1_look 1 = true := by decide +kernel
set_option maxHeartbeats 4000000 in
theorem m_X1_look {l : Launch} {B : Nat} {D : va_G} {s0 : State} {b0 : Nat} (G : hp_G l B D s0 b0) (o : Nat) (a1 : Int32) (Si : hp_St) (Q : Int32 → hp_St → Prop) (hc0 : st_C Si o = 1) (h : wp_X1_look o a1 Si Q) : hp_M l B D s0 yX1_look cX1_look 6 (some .int) 7 448 0 0 [hp_v B o, .int a1] Si (hp_Qi B D s0 (fun r S' => hp_mono Si S' ∧ Q r S')) := by
  refine hp_start G (by decide +kernel) rfl rfl (lv := [(0, hp_v B o), (1, .int a1)]) (by simp [lg_sl, hp_vc, hp_ci, hp_cj]) (by simp [lv_args, hp_vc, hp_ci, hp_cj]) ?_
  intro p e s m args below meth c E ls hl hR
  have hm : hp_mono Si Si := hp_mono.rf
  generalize hH : s.heap = H at hR ⊢
  generalize hLo : ([] : List Loc) = locs at hR ⊢
  have b125 : ∀ (v4 : Int32) (S : hp_St) (H : Heap) (locs : List Loc) (ls : Array Slot), wb_X1_look_125 o a1 v4 S Q → lv_has ls 6 [(4, .int v4)] → hp_S B D s0 S H locs → hp_mono Si S → W p l e ({ frames := 7, cells := 0, slots := 0, locals := 448 } : Room) s m args below meth c H locs 0 0 (MQ below (hp_Qi B D s0 (fun r S' => hp_mono Si S' ∧ Q r S')) args s 0 0 (fun q => B < q)) (F0 m 125 ls []) := by
    intro v4 S H locs ls h hl hR hm
    unfold wb_X1_look_125 at h
    refine hp_iload E hl 0 rfl dX1_look_125 (rfl : 125 + 2 = 127) ?_
    exact hp_iret E hR ⟨hm, h⟩ (Nat.le_of_ble_eq_true rfl) (Nat.le_of_ble_eq_true rfl) dX1_look_127
  have b22 : ∀ (v2 : Int32) (v3 : Int32) (S : hp_St) (H : Heap) (locs : List Loc) (ls : Array Slot), wl_X1_look_22 o a1 v2 v3 S Q → lv_has ls 6 [(0, hp_v B o), (2, .int v2), (3, .int v3)] → hp_S B D s0 S H locs → hp_mono Si S → W p l e ({ frames := 7, cells := 0, slots := 0, locals := 448 } : Room) s m args below meth c H locs 0 0 (MQ below (hp_Qi B D s0 (fun r S' => hp_mono Si S' ∧ Q r S')) args s 0 0 (fun q => B < q)) (F0 m 22 ls []) := by
    intro v2 v3 S H locs ls h hl hR hm
    obtain ⟨I22, μ22, hI, hst⟩ := h
    have key22 : ∀ (N : Nat) (v2 : Int32) (v3 : Int32) (H : Heap) (locs : List Loc) (ls : Array Slot), μ22 v2 v3 < N → I22 v2 v3 → lv_has ls 6 [(0, hp_v B o), (2, .int v2), (3, .int v3)] → hp_S B D s0 S H locs → W p l e ({ frames := 7, cells := 0, slots := 0, locals := 448 } : Room) s m args below meth c H locs 0 0 (MQ below (hp_Qi B D s0 (fun r S' => hp_mono Si S' ∧ Q r S')) args s 0 0 (fun q => B < q)) (F0 m 22 ls []) := by
      intro N
      induction N with
      | zero =>
        intro v2 v3 H locs ls hN
        exact absurd hN (Nat.not_lt_zero _)
      | succ N ih22 =>
        intro v2 v3 H locs ls hN hI hl hR
        have h := hst v2 v3 hI
        obtain ⟨K22, hKe22⟩ : ∃ K : Int32 → Int32 → Prop, K = (fun v2' v3' => I22 v2' v3' ∧ μ22 v2' v3' < μ22 v2 v3) := ⟨_, rfl⟩
        rw [← hKe22] at h
        have hK22 : ∀ (v2' : Int32) (v3' : Int32) (H : Heap) (locs : List Loc) (ls : Array Slot), K22 v2' v3' → lv_has ls 6 [(0, hp_v B o), (2, .int (v2')), (3, .int (v3'))] → hp_S B D s0 S H locs → W p l e ({ frames := 7, cells := 0, slots := 0, locals := 448 } : Room) s m args below meth c H locs 0 0 (MQ below (hp_Qi B D s0 (fun r S' => hp_mono Si S' ∧ Q r S')) args s 0 0 (fun q => B < q)) (F0 m 22 ls []) := by
          intro v2' v3' H locs ls hI hl hR
          rw [hKe22] at hI
          exact ih22 v2' v3' H locs ls (Nat.lt_of_lt_of_le hI.2 (Nat.le_of_lt_succ hN)) hI.1 hl hR
        have b28 : ∀ (v2 : Int32) (v3 : Int32) (v4 : Int32) (v5 : Int32) (H : Heap) (locs : List Loc) (ls : Array Slot), wl_X1_look_28 o a1 v2 v3 v4 v5 S K22 Q → lv_has ls 6 [(0, hp_v B o), (2, .int v2), (3, .int v3), (4, .int v4), (5, .int v5)] → hp_S B D s0 S H locs → W p l e ({ frames := 7, cells := 0, slots := 0, locals := 448 } : Room) s m args below meth c H locs 0 0 (MQ below (hp_Qi B D s0 (fun r S' => hp_mono Si S' ∧ Q r S')) args s 0 0 (fun q => B < q)) (F0 m 28 ls []) := by
          intro v2 v3 v4 v5 H locs ls h hl hR
          obtain ⟨I28, μ28, hI, hst⟩ := h
          have key28 : ∀ (N : Nat) (v4 : Int32) (v5 : Int32) (H : Heap) (locs : List Loc) (ls : Array Slot), μ28 v4 v5 < N → I28 v4 v5 → lv_has ls 6 [(0, hp_v B o), (2, .int v2), (3, .int v3), (4, .int v4), (5, .int v5)] → hp_S B D s0 S H locs → W p l e ({ frames := 7, cells := 0, slots := 0, locals := 448 } : Room) s m args below meth c H locs 0 0 (MQ below (hp_Qi B D s0 (fun r S' => hp_mono Si S' ∧ Q r S')) args s 0 0 (fun q => B < q)) (F0 m 28 ls []) := by
            intro N
            induction N with
            | zero =>
              intro v4 v5 H locs ls hN
              exact absurd hN (Nat.not_lt_zero _)
            | succ N ih28 =>
              intro v4 v5 H locs ls hN hI hl hR
              have h := hst v4 v5 hI
              obtain ⟨K28, hKe28⟩ : ∃ K : Int32 → Int32 → Prop, K = (fun v4' v5' => I28 v4' v5' ∧ μ28 v4' v5' < μ28 v4 v5) := ⟨_, rfl⟩
              rw [← hKe28] at h
              have hK28 : ∀ (v4' : Int32) (v5' : Int32) (H : Heap) (locs : List Loc) (ls : Array Slot), K28 v4' v5' → lv_has ls 6 [(0, hp_v B o), (2, .int v2), (3, .int v3), (4, .int (v4')), (5, .int (v5'))] → hp_S B D s0 S H locs → W p l e ({ frames := 7, cells := 0, slots := 0, locals := 448 } : Room) s m args below meth c H locs 0 0 (MQ below (hp_Qi B D s0 (fun r S' => hp_mono Si S' ∧ Q r S')) args s 0 0 (fun q => B < q)) (F0 m 28 ls []) := by
                intro v4' v5' H locs ls hI hl hR
                rw [hKe28] at hI
                exact ih28 v4' v5' H locs ls (Nat.lt_of_lt_of_le hI.2 (Nat.le_of_lt_succ hN)) hI.1 hl hR
              have b109 : ∀ (v4 : Int32) (v5 : Int32) (H : Heap) (locs : List Loc) (ls : Array Slot), wb_X1_look_109 o a1 v2 v3 v4 v5 S K22 K28 Q → lv_has ls 6 [(0, hp_v B o), (2, .int v2), (3, .int v3), (4, .int v4), (5, .int v5)] → hp_S B D s0 S H locs → W p l e ({ frames := 7, cells := 0, slots := 0, locals := 448 } : Room) s m args below meth c H locs 0 0 (MQ below (hp_Qi B D s0 (fun r S' => hp_mono Si S' ∧ Q r S')) args s 0 0 (fun q => B < q)) (F0 m 109 ls []) := by
                intro v4 v5 H locs ls h hl hR
                unfold wb_X1_look_109 at h
                refine hp_iinc E hl (v5 + (1 : Int32)) 4 (lv' := [(0, hp_v B o), (2, .int v2), (3, .int v3), (4, .int v4)]) dX1_look_109 (rfl : 109 + 3 = 112) rfl (by first | rfl | (congr 1)) (by decide) rfl (fun ls hl => ?_)
                refine hp_goto E (tgt := 28) dX1_look_112 (by decide) ?_
                exact hK28 _ _ _ _ _ h (lv_sub hl [1, 2, 3, 4, 0] rfl) hR
              have b105 : ∀ (v5 : Int32) (H : Heap) (locs : List Loc) (ls : Array Slot), wb_X1_look_105 o a1 v2 v3 v5 S K22 K28 Q → lv_has ls 6 [(0, hp_v B o), (2, .int v2), (3, .int v3), (5, .int v5)] → hp_S B D s0 S H locs → W p l e ({ frames := 7, cells := 0, slots := 0, locals := 448 } : Room) s m args below meth c H locs 0 0 (MQ below (hp_Qi B D s0 (fun r S' => hp_mono Si S' ∧ Q r S')) args s 0 0 (fun q => B < q)) (F0 m 105 ls []) := by
                intro v5 H locs ls h hl hR
                unfold wb_X1_look_105 at h
                refine hp_iload E hl 3 rfl dX1_look_105 (rfl : 105 + 2 = 107) ?_
                refine hp_istore E hl 4 (lv' := [(0, hp_v B o), (2, .int v2), (3, .int v3), (5, .int v5)]) dX1_look_107 (rfl : 107 + 2 = 109) (by decide) rfl (fun ls hl => ?_)
                exact b109 _ _ _ _ _ h (lv_sub hl [1, 2, 3, 0, 4] rfl) hR
              unfold wb_X1_look_28 at h
              refine hp_iload E hl 4 rfl dX1_look_28 (rfl : 28 + 2 = 30) ?_
              refine hp_aload_n E hl 0 rfl 0 rfl dX1_look_30 (rfl : 30 + 1 = 31) ?_
              refine hp_getR E hR in_X1 (hp_mono.c hm hc0) rfl 8 (Nat.le_of_ble_eq_true rfl) rfl q328 (fun _ h => h) dX1_look_31 (rfl : 31 + 3 = 34) ?_
              obtain ⟨hc2801, h⟩ := h
              refine hp_fi (hp_rV E hR hl (m_J2_size G _ _ _ hc2801 h) hc2801 (ci := 16) rfl rfl q691 q545 q546 q78 q547 nf_J2_size ⟨Nat.le_of_ble_eq_true rfl, Nat.le_of_ble_eq_true rfl⟩ (rest := [.int v5]) rfl (Nat.le_of_ble_eq_true rfl) dX1_look_34 ⟨Nat.le_of_ble_eq_true rfl, Nat.le_of_ble_eq_true rfl⟩) hR (rfl : 34 + 3 = 37) (fun z2802 Sx H locs hq hR => ?_)
              obtain ⟨hSx, h⟩ := hq
              rw [hSx] at hR
              refine hp_icmp_ge E dX1_look_37 (rfl : 37 + 3 = 40) (tgt := 115) (by decide) (fun hb => ?_) (fun hb => ?_)
              · have h := h.1 hb
                refine hp_aload_n E hl 0 rfl 0 rfl dX1_look_40 (rfl : 40 + 1 = 41) ?_
                refine hp_getR E hR in_X1 (hp_mono.c hm hc0) rfl 13 (Nat.le_of_ble_eq_true rfl) rfl q336 (fun _ h => h) dX1_look_41 (rfl : 41 + 3 = 44) ?_
                obtain ⟨hc2803, h⟩ := h
                refine hp_getRN E hR in_X4 hc2803 rfl 0 (Nat.le_of_ble_eq_true rfl) rfl q231 (fun _ h => h) dX1_look_44 (rfl : 44 + 3 = 47) ?_
                refine hp_iload E hl 4 rfl dX1_look_47 (rfl : 47 + 2 = 49) ?_
                obtain ⟨hc2804, h⟩ := h
                obtain ⟨hi2805, h⟩ := h
                refine hp_iald E hR hc2804 hi2805 dX1_look_49 (rfl : 49 + 1 = 50) ?_
                refine hp_iconst E (-1 : Int32) (by decide) dX1_look_50 (rfl : 50 + 1 = 51) ?_
                refine hp_icmp_ne E dX1_look_51 (rfl : 51 + 3 = 54) (tgt := 109) (by decide) (fun hb => ?_) (fun hb => ?_)
                · have h := h.1 hb
                  refine hp_iload_n E hl 3 rfl 2 rfl dX1_look_54 (rfl : 54 + 1 = 55) ?_
                  refine hp_iload E hl 4 rfl dX1_look_55 (rfl : 55 + 2 = 57) ?_
                  refine hp_ishr E dX1_look_57 (rfl : 57 + 1 = 58) ?_
                  refine hp_iconst E (1 : Int32) (by decide) dX1_look_58 (rfl : 58 + 1 = 59) ?_
                  refine hp_iand E dX1_look_59 (rfl : 59 + 1 = 60) ?_
                  refine hp_if_ne E dX1_look_60 (rfl : 60 + 3 = 63) (tgt := 109) (by decide) (fun hb => ?_) (fun hb => ?_)
                  · have h := h.1 hb
                    refine hp_iload E hl 3 rfl dX1_look_63 (rfl : 63 + 2 = 65) ?_
                    refine hp_iconst E (-1 : Int32) (by decide) dX1_look_65 (rfl : 65 + 1 = 66) ?_
                    refine hp_icmp_eq E dX1_look_66 (rfl : 66 + 3 = 69) (tgt := 105) (by decide) (fun hb => ?_) (fun hb => ?_)
                    · have h := h.1 hb
                      exact b105 _ _ _ _ h (lv_sub hl [0, 1, 2, 4] rfl) hR
                    · have h := h.2 hb
                      refine hp_aload_n E hl 0 rfl 0 rfl dX1_look_69 (rfl : 69 + 1 = 70) ?_
                      refine hp_aload_n E hl 0 rfl 0 rfl dX1_look_70 (rfl : 70 + 1 = 71) ?_
                      refine hp_getR E hR in_X1 (hp_mono.c hm hc0) rfl 8 (Nat.le_of_ble_eq_true rfl) rfl q328 (fun _ h => h) dX1_look_71 (rfl : 71 + 3 = 74) ?_
                      refine hp_iload E hl 4 rfl dX1_look_74 (rfl : 74 + 2 = 76) ?_
                      refine hp_fa (hp_rV E hR hl (m_J2_get G _ _ _ _ hc2801 h) hc2801 (ci := 16) rfl rfl q727 q728 q729 q78 q730 nf_J2_get ⟨Nat.le_of_ble_eq_true rfl, Nat.le_of_ble_eq_true rfl⟩ (rest := [hp_v B o]) rfl (Nat.le_of_ble_eq_true rfl) dX1_look_76 ⟨Nat.le_of_ble_eq_true rfl, Nat.le_of_ble_eq_true rfl⟩) hR (rfl : 76 + 3 = 79) (fun z2806 Sx H locs hq hR => ?_)
                      obtain ⟨hSx, h⟩ := hq
                      rw [hSx] at hR
                      obtain ⟨hc2807, h⟩ := h
                      refine hp_castS E hR hc2807 (ci := 9) rfl q692 dX1_look_79 (rfl : 79 + 3 = 82) ?_
                      refine hp_fl (hp_rV E hR hl (m_X1_riskOf G _ _ _ _ (hp_mono.c hm hc0) h) (hp_mono.c hm hc0) (ci := 0) rfl rfl q1141 q1143 qs29 q73 q1144 nf_X1_riskOf ⟨Nat.le_of_ble_eq_true rfl, Nat.le_of_ble_eq_true rfl⟩ (rest := []) rfl (Nat.le_of_ble_eq_true rfl) dX1_look_82 ⟨Nat.le_of_ble_eq_true rfl, Nat.le_of_ble_eq_true rfl⟩) hR (rfl : 82 + 3 = 85) (fun z2808 Sx H locs hq hR => ?_)
                      obtain ⟨hSx, h⟩ := hq
                      rw [hSx] at hR
                      refine hp_aload_n E hl 0 rfl 0 rfl dX1_look_85 (rfl : 85 + 1 = 86) ?_
                      refine hp_aload_n E hl 0 rfl 0 rfl dX1_look_86 (rfl : 86 + 1 = 87) ?_
                      refine hp_getR E hR in_X1 (hp_mono.c hm hc0) rfl 8 (Nat.le_of_ble_eq_true rfl) rfl q328 (fun _ h => h) dX1_look_87 (rfl : 87 + 3 = 90) ?_
                      refine hp_iload E hl 3 rfl dX1_look_90 (rfl : 90 + 2 = 92) ?_
                      refine hp_fa (hp_rV E hR hl (m_J2_get G _ _ _ _ hc2801 h) hc2801 (ci := 16) rfl rfl q727 q728 q729 q78 q730 nf_J2_get ⟨Nat.le_of_ble_eq_true rfl, Nat.le_of_ble_eq_true rfl⟩ (rest := [hp_v B o, .long z2808]) rfl (Nat.le_of_ble_eq_true rfl) dX1_look_92 ⟨Nat.le_of_ble_eq_true rfl, Nat.le_of_ble_eq_true rfl⟩) hR (rfl : 92 + 3 = 95) (fun z2809 Sx H locs hq hR => ?_)
                      obtain ⟨hSx, h⟩ := hq
                      rw [hSx] at hR
                      obtain ⟨hc2810, h⟩ := h
                      refine hp_castS E hR hc2810 (ci := 9) rfl q692 dX1_look_95 (rfl : 95 + 3 = 98) ?_
                      refine hp_fl (hp_rV E hR hl (m_X1_riskOf G _ _ _ _ (hp_mono.c hm hc0) h) (hp_mono.c hm hc0) (ci := 0) rfl rfl q1141 q1143 qs29 q73 q1144 nf_X1_riskOf ⟨Nat.le_of_ble_eq_true rfl, Nat.le_of_ble_eq_true rfl⟩ (rest := [.long z2808]) rfl (Nat.le_of_ble_eq_true rfl) dX1_look_98 ⟨Nat.le_of_ble_eq_true rfl, Nat.le_of_ble_eq_true rfl⟩) hR (rfl : 98 + 3 = 101) (fun z2811 Sx H locs hq hR => ?_)
                      obtain ⟨hSx, h⟩ := hq
                      rw [hSx] at hR
                      refine hp_lcmp E dX1_look_101 (rfl : 101 + 1 = 102) ?_
                      refine hp_if_le E dX1_look_102 (rfl : 102 + 3 = 105) (tgt := 109) (by decide) (fun hb => ?_) (fun hb => ?_)
                      · have h := h.1 hb
                        exact b109 _ _ _ _ _ h hl hR
                      · have h := h.2 hb
                        exact b105 _ _ _ _ h (lv_sub hl [0, 1, 2, 4] rfl) hR
                  · have h := h.2 hb
                    exact b109 _ _ _ _ _ h hl hR
                · have h := h.2 hb
                  exact b109 _ _ _ _ _ h hl hR
              · have h := h.2 hb
                refine hp_iload E hl 3 rfl dX1_look_115 (rfl : 115 + 2 = 117) ?_
                refine hp_iconst E (-1 : Int32) (by decide) dX1_look_117 (rfl : 117 + 1 = 118) ?_
                refine hp_icmp_eq E dX1_look_118 (rfl : 118 + 3 = 121) (tgt := 125) (by decide) (fun hb => ?_) (fun hb => ?_)
                · have h := h.1 hb
                  exact b125 _ _ _ _ _ h (lv_sub hl [3] rfl) hR hm
                · have h := h.2 hb
                  refine hp_iload_n E hl 2 rfl 1 rfl dX1_look_121 (rfl : 121 + 1 = 122) ?_
                  refine hp_if_ne E dX1_look_122 (rfl : 122 + 3 = 125) (tgt := 128) (by decide) (fun hb => ?_) (fun hb => ?_)
                  · have h := h.1 hb
                    exact b125 _ _ _ _ _ h (lv_sub hl [3] rfl) hR hm
                  · have h := h.2 hb
                    refine hp_iload_n E hl 3 rfl 2 rfl dX1_look_128 (rfl : 128 + 1 = 129) ?_
                    refine hp_iconst E (1 : Int32) (by decide) dX1_look_129 (rfl : 129 + 1 = 130) ?_
                    refine hp_iload E hl 3 rfl dX1_look_130 (rfl : 130 + 2 = 132) ?_
                    refine hp_ishl E dX1_look_132 (rfl : 132 + 1 = 133) ?_
                    refine hp_ior E dX1_look_133 (rfl : 133 + 1 = 134) ?_
                    refine hp_istore_n E hl 3 rfl (lv' := [(0, hp_v B o), (2, .int v2), (4, .int v4), (5, .int v5)]) dX1_look_134 (rfl : 134 + 1 = 135) (by decide) rfl (fun ls hl => ?_)
                    refine hp_iinc E hl (v2 + (-1 : Int32)) 2 (lv' := [(3, .int (v3 ||| ((1 : Int32) <<< (v4 &&& 31)))), (0, hp_v B o), (4, .int v4), (5, .int v5)]) dX1_look_135 (rfl : 135 + 3 = 138) rfl (by first | rfl | (congr 1)) (by decide) rfl (fun ls hl => ?_)
                    refine hp_goto E (tgt := 22) dX1_look_138 (by decide) ?_
                    exact hK22 _ _ _ _ _ h (lv_sub hl [2, 0, 1] rfl) hR
          exact key28 (μ28 v4 v5 + 1) v4 v5 H locs ls (Nat.lt_succ_self _) hI hl hR
        unfold wb_X1_look_22 at h
        refine hp_iconst E (-1 : Int32) (by decide) dX1_look_22 (rfl : 22 + 1 = 23) ?_
        refine hp_istore E hl 4 (lv' := [(0, hp_v B o), (2, .int v2), (3, .int v3)]) dX1_look_23 (rfl : 23 + 2 = 25) (by decide) rfl (fun ls hl => ?_)
        refine hp_iconst E (0 : Int32) (by decide) dX1_look_25 (rfl : 25 + 1 = 26) ?_
        refine hp_istore E hl 5 (lv' := [(4, .int (-1 : Int32)), (0, hp_v B o), (2, .int v2), (3, .int v3)]) dX1_look_26 (rfl : 26 + 2 = 28) (by decide) rfl (fun ls hl => ?_)
        exact b28 _ _ _ _ _ _ _ h (lv_sub hl [2, 3, 4, 1, 0] rfl) hR
    exact key22 (μ22 v2 v3 + 1) v2 v3 H locs ls (Nat.lt_succ_self _) hI hl hR
  unfold wp_X1_look at h
  refine hp_aload_n E hl 0 rfl 0 rfl dX1_look_0 (rfl : 0 + 1 = 1) ?_
  refine hp_getR E hR in_X1 hc0 rfl 13 (Nat.le_of_ble_eq_true rfl) rfl q336 (fun _ h => h) dX1_look_1 (rfl : 1 + 3 = 4) ?_
  refine hp_aload_n E hl 0 rfl 0 rfl dX1_look_4 (rfl : 4 + 1 = 5) ?_
  refine hp_getI E hR in_X1 hc0 rfl 4 (Nat.le_of_ble_eq_true rfl) rfl q320 (fun _ h => h) dX1_look_5 (rfl : 5 + 3 = 8) ?_
  obtain ⟨hc1, h⟩ := h
  refine hp_fa (hp_rV E hR hl (m_X4_know G _ _ _ _ hc1 h) hc1 (ci := 3) rfl rfl q946 q947 q948 q79 q949 nf_X4_know ⟨Nat.le_of_ble_eq_true rfl, Nat.le_of_ble_eq_true rfl⟩ (rest := []) rfl (Nat.le_of_ble_eq_true rfl) dX1_look_8 ⟨Nat.le_of_ble_eq_true rfl, Nat.le_of_ble_eq_true rfl⟩) hR (rfl : 8 + 3 = 11) (fun z2 S3 H locs hq hR => ?_)
  obtain ⟨hm4, h⟩ := hq
  have h := h hm4
  have hm := hp_mono.tr hm hm4
  refine hp_pop E hp_vc dX1_look_11 (rfl : 11 + 1 = 12) ?_
  refine hp_iload_n E hl 1 rfl 1 rfl dX1_look_12 (rfl : 12 + 1 = 13) ?_
  refine hp_if_ge E dX1_look_13 (rfl : 13 + 3 = 16) (tgt := 18) (by decide) (fun hb => ?_) (fun hb => ?_)
  · have h := h.1 hb
    refine hp_iconst E (-1 : Int32) (by decide) dX1_look_16 (rfl : 16 + 1 = 17) ?_
    exact hp_iret E hR ⟨hm, h⟩ (Nat.le_of_ble_eq_true rfl) (Nat.le_of_ble_eq_true rfl) dX1_look_17
  · have h := h.2 hb
    refine hp_iload_n E hl 1 rfl 1 rfl dX1_look_18 (rfl : 18 + 1 = 19) ?_
    refine hp_istore_n E hl 2 rfl (lv' := [(0, hp_v B o), (1, .int a1)]) dX1_look_19 (rfl : 19 + 1 = 20) (by decide) rfl (fun ls hl => ?_)
    refine hp_iconst E (0 : Int32) (by decide) dX1_look_20 (rfl : 20 + 1 = 21) ?_
    refine hp_istore_n E hl 3 rfl (lv' := [(2, .int a1), (0, hp_v B o), (1, .int a1)]) dX1_look_21 (rfl : 21 + 1 = 22) (by decide) rfl (fun ls hl => ?_)
    exact b22 _ _ _ _ _ _ h (lv_sub hl [2, 1, 0] rfl) hR hm
def wp_X11_asked (o : Nat) (a1 : Int32) (S : hp_St) (Q : Nat → Prop) : Prop := Q (st_R S o 4)
theorem nf_X11_asked : hp_nf yX11_asked 1 = true := by decide +kernel
set_option maxHeartbeats 4000000 in
theorem m_X11_asked {l : Launch} {B : Nat} {D : va_G} {s0 : State} {b0 : Nat} (G : hp_G l B D s0 b0) (o : Nat) (a1 : Int32) (Si : hp_St) (Q : Nat → Prop) (hc0 : st_C Si o = 11) (h : wp_X11_asked o a1 Si Q) : hp_M l B D s0 yX11_asked cX11_asked 2 (some (.object "LifeRents$Life")) 2 128 0 0 [hp_v B o, .int a1] Si (hp_Qa B D s0 (fun r S' => S' = Si ∧ Q r)) := by
  refine hp_start G (by decide +kernel) rfl rfl (lv := [(0, hp_v B o), (1, .int a1)]) (by simp [lg_sl, hp_vc, hp_ci, hp_cj]) (by simp [lv_args, hp_vc, hp_ci, hp_cj]) ?_
  intro p e s m args below meth c E ls hl hR
  unfold wp_X11_asked at h
  refine hp_aload_n E hl 0 rfl 0 rfl dX11_asked_0 (rfl : 0 + 1 = 1) ?_
  refine hp_getR E hR in_X11 hc0 rfl 4 (Nat.le_of_ble_eq_true rfl) rfl q794 (fun _ h => h) dX11_asked_1 (rfl : 1 + 3 = 4) ?_
  exact hp_aret E hR (Or.inl ⟨_, rfl⟩) ⟨rfl, h⟩ (Nat.le_of_ble_eq_true rfl) (Nat.le_of_ble_eq_true rfl) dX11_asked_4
def wp_X12_asked (o : Nat) (a1 : Int32) (S : hp_St) (Q : Nat → Prop) : Prop := wp_X1_younger (st_R S o 4) (st_R S o 7) a1 S (fun z1 => Q z1)
theorem nf_X12_asked : hp_nf yX12_asked 1 = true := by decide +kernel
set_option maxHeartbeats 4000000 in
theorem m_X12_asked {l : Launch} {B : Nat} {D : va_G} {s0 : State} {b0 : Nat} (G : hp_G l B D s0 b0) (o : Nat) (a1 : Int32) (Si : hp_St) (Q : Nat → Prop) (hc0 : st_C Si o = 12) (h : wp_X12_asked o a1 Si Q) : hp_M l B D s0 yX12_asked cX12_asked 2 (some (.object "LifeRents$Life")) 4 256 0 0 [hp_v B o, .int a1] Si (hp_Qa B D s0 (fun r S' => S' = Si ∧ Q r)) := by
  refine hp_start G (by decide +kernel) rfl rfl (lv := [(0, hp_v B o), (1, .int a1)]) (by simp [lg_sl, hp_vc, hp_ci, hp_cj]) (by simp [lv_args, hp_vc, hp_ci, hp_cj]) ?_
  intro p e s m args below meth c E ls hl hR
  unfold wp_X12_asked at h
  refine hp_aload_n E hl 0 rfl 0 rfl dX12_asked_0 (rfl : 0 + 1 = 1) ?_
  refine hp_getR E hR in_X12 hc0 rfl 4 (Nat.le_of_ble_eq_true rfl) rfl q795 (fun x h => u_same (E.w q796) x h) dX12_asked_1 (rfl : 1 + 3 = 4) ?_
  refine hp_aload_n E hl 0 rfl 0 rfl dX12_asked_4 (rfl : 4 + 1 = 5) ?_
  refine hp_getR E hR in_X12 hc0 rfl 7 (Nat.le_of_ble_eq_true rfl) rfl q824 (fun _ h => h) dX12_asked_5 (rfl : 5 + 3 = 8) ?_
  refine hp_iload_n E hl 1 rfl 1 rfl dX12_asked_8 (rfl : 8 + 1 = 9) ?_
  refine hp_fa (hp_rSN E hR hl (m_X1_younger G _ _ _ _ _ h) q1161 q775 q73 q776 nf_X1_younger ⟨Nat.le_of_ble_eq_true rfl, Nat.le_of_ble_eq_true rfl⟩ (rest := []) rfl (Nat.le_of_ble_eq_true rfl) dX12_asked_9 ⟨Nat.le_of_ble_eq_true rfl, Nat.le_of_ble_eq_true rfl⟩) hR (rfl : 9 + 3 = 12) (fun z1 Sx H locs hq hR => ?_)
  obtain ⟨hSx, h⟩ := hq
  rw [hSx] at hR
  exact hp_aret E hR (Or.inl ⟨_, rfl⟩) ⟨rfl, h⟩ (Nat.le_of_ble_eq_true rfl) (Nat.le_of_ble_eq_true rfl) dX12_asked_12
def wb_X1_converts_182 (o : Nat) (a1 : Int32) (t0 : Int32) (S : hp_St) (Q : Int32 → hp_St → Prop) : Prop := Q t0 S
def wb_X1_converts_122 (o : Nat) (a1 : Int32) (r2 : Nat) (r3 : Nat) (r4 : Nat) (t0 : Nat) (t1 : Nat) (t2 : Int32) (t3 : Int32) (S : hp_St) (Q : Int32 → hp_St → Prop) : Prop := (st_C S t0 = 3) ∧ wp_X3_lump t0 t1 t2 t3 S (fun z12202 => (st_C S r2 = 11 ∨ st_C S r2 = 12) ∧ wp_X1_worth_2 o (0 : Int32) r3 r4 S (fun z12204 => wp_X1_worth_2 o (1 : Int32) r3 r4 S (fun z12205 => ((((lg_cmp ((((z12202.toInt64 * ((st_I S r2 2).toInt64)) * (2 : Int64)) * z12204.toInt64) / (100 : Int64)) (((2 : Int64) * ((st_I S r2 2).toInt64)) * z12205.toInt64)) ≤ 0) → wb_X1_converts_182 o a1 (0 : Int32) S Q) ∧ ((¬ ((lg_cmp ((((z12202.toInt64 * ((st_I S r2 2).toInt64)) * (2 : Int64)) * z12204.toInt64) / (100 : Int64)) (((2 : Int64) * ((st_I S r2 2).toInt64)) * z12205.toInt64)) ≤ 0)) → wb_X1_converts_182 o a1 (1 : Int32) S Q)))))
def wb_X1_converts_92 (o : Nat) (a1 : Int32) (r2 : Nat) (r3 : Nat) (t0 : Nat) (S : hp_St) (Q : Int32 → hp_St → Prop) : Prop := (st_C S r2 = 11 ∨ st_C S r2 = 12) ∧ hp_virt (fun Kc9203 => (st_C S r2 = 11 → wp_X11_asked r2 (st_I S o 4) S Kc9203) ∧ (st_C S r2 = 12 → wp_X12_asked r2 (st_I S o 4) S Kc9203)) (fun z9202 => hp_virt (fun Kc9205 => (st_C S r2 = 11 → wp_X11_second r2 S Kc9205) ∧ (st_C S r2 = 12 → wp_X12_second r2 S Kc9205)) (fun z9204 => (((z9204 = 0) → wb_X1_converts_122 o a1 r2 r3 t0 (st_R S o 7) z9202 (st_I S o 4) (0 : Int32) S Q) ∧ ((¬ (z9204 = 0)) → wb_X1_converts_122 o a1 r2 r3 t0 (st_R S o 7) z9202 (st_I S o 4) (1 : Int32) S Q))))
def wb_X1_converts_84 (o : Nat) (a1 : Int32) (r2 : Nat) (r3 : Nat) (S : hp_St) (Q : Int32 → hp_St → Prop) : Prop := wb_X1_converts_92 o a1 r2 r3 0 S Q
def wb_X1_converts_57 (o : Nat) (a1 : Int32) (r2 : Nat) (t0 : Nat) (S : hp_St) (Q : Int32 → hp_St → Prop) : Prop := (st_C S r2 = 11 ∨ st_C S r2 = 12) ∧ hp_virt (fun Kc5703 => (st_C S r2 = 11 → wp_X11_second r2 S Kc5703) ∧ (st_C S r2 = 12 → wp_X12_second r2 S Kc5703)) (fun z5702 => (((z5702 = 0) → wb_X1_converts_84 o a1 r2 t0 S Q) ∧ ((¬ (z5702 = 0)) → (st_C S (st_R S o 13) = 4) ∧ hp_virt (fun Kc5706 => (st_C S r2 = 11 → wp_X11_second r2 S Kc5706) ∧ (st_C S r2 = 12 → wp_X12_second r2 S Kc5706)) (fun z5705 => (st_C S z5705 = 10) ∧ (st_C S (st_R S (st_R S o 13) 0) = 50) ∧ (vp_in (st_I S z5705 0) (st_L S (st_R S (st_R S o 13) 0))) ∧ ((((st_I S (st_R S (st_R S o 13) 0) (st_I S z5705 0).toNatClampNeg) = (-1 : Int32)) → hp_virt (fun Kc5711 => (st_C S r2 = 11 → wp_X11_second r2 S Kc5711) ∧ (st_C S r2 = 12 → wp_X12_second r2 S Kc5711)) (fun z5710 => wb_X1_converts_92 o a1 r2 t0 z5710 S Q)) ∧ ((¬ ((st_I S (st_R S (st_R S o 13) 0) (st_I S z5705 0).toNatClampNeg) = (-1 : Int32))) → wb_X1_converts_84 o a1 r2 t0 S Q))))))
def wp_X1_converts (o : Nat) (a1 : Int32) (S : hp_St) (Q : Int32 → hp_St → Prop) : Prop := wp_X1_aRent o a1 S (fun z1 => (((z1 = 0) → Q (-1 : Int32) S) ∧ ((¬ (z1 = 0)) → (st_C S (st_R S o 13) = 4) ∧ wp_X4_know (st_R S o 13) (st_I S o 4) S (fun z3 S4 => hp_mono S S4 → (st_C S4 (st_R S o 14) = 5) ∧ wp_X5_count (st_R S o 14) z3 S4 (fun S7 => hp_mono S4 S7 → (st_C S7 (st_R S7 o 13) = 4) ∧ (st_C S7 z1 = 11 ∨ st_C S7 z1 = 12) ∧ (st_C S7 (st_R S7 z1 4) = 10) ∧ (st_C S7 (st_R S7 (st_R S7 o 13) 0) = 50) ∧ (vp_in (st_I S7 (st_R S7 z1 4) 0) (st_L S7 (st_R S7 (st_R S7 o 13) 0))) ∧ ((((st_I S7 (st_R S7 (st_R S7 o 13) 0) (st_I S7 (st_R S7 z1 4) 0).toNatClampNeg) = (-1 : Int32)) → wb_X1_converts_57 o a1 z1 (st_R S7 z1 4) S7 Q) ∧ ((¬ ((st_I S7 (st_R S7 (st_R S7 o 13) 0) (st_I S7 (st_R S7 z1 4) 0).toNatClampNeg) = (-1 : Int32))) → wb_X1_converts_57 o a1 z1 0 S7 Q)))))))
theorem nf_X1_converts : hp_nf yX1_converts 1 = true := by decide +kernel
set_option maxHeartbeats 4000000 in
theorem m_X1_converts {l : Launch} {B : Nat} {D : va_G} {s0 : State} {b0 : Nat} (G : hp_G l B D s0 b0) (o : Nat) (a1 : Int32) (Si : hp_St) (Q : Int32 → hp_St → Prop) (hc0 : st_C Si o = 1) (h : wp_X1_converts o a1 Si Q) : hp_M l B D s0 yX1_converts cX1_converts 7 (some .int) 7 448 0 0 [hp_v B o, .int a1] Si (hp_Qi B D s0 (fun r S' => hp_mono Si S' ∧ Q r S')) := by
  refine hp_start G (by decide +kernel) rfl rfl (lv := [(0, hp_v B o), (1, .int a1)]) (by simp [lg_sl, hp_vc, hp_ci, hp_cj]) (by simp [lv_args, hp_vc, hp_ci, hp_cj]) ?_
  intro p e s m args below meth c E ls hl hR
  have hm : hp_mono Si Si := hp_mono.rf
  generalize hH : s.heap = H at hR ⊢
  generalize hLo : ([] : List Loc) = locs at hR ⊢
  have b182 : ∀ (t0 : Int32) (S : hp_St) (H : Heap) (locs : List Loc) (ls : Array Slot), wb_X1_converts_182 o a1 t0 S Q → lv_has ls 7 [] → hp_S B D s0 S H locs → hp_mono Si S → W p l e ({ frames := 7, cells := 0, slots := 0, locals := 448 } : Room) s m args below meth c H locs 0 0 (MQ below (hp_Qi B D s0 (fun r S' => hp_mono Si S' ∧ Q r S')) args s 0 0 (fun q => B < q)) (F0 m 182 ls [.int t0]) := by
    intro t0 S H locs ls h hl hR hm
    unfold wb_X1_converts_182 at h
    exact hp_iret E hR ⟨hm, h⟩ (Nat.le_of_ble_eq_true rfl) (Nat.le_of_ble_eq_true rfl) dX1_converts_182
  have b122 : ∀ (r2 : Nat) (r3 : Nat) (r4 : Nat) (t0 : Nat) (t1 : Nat) (t2 : Int32) (t3 : Int32) (S : hp_St) (H : Heap) (locs : List Loc) (ls : Array Slot), wb_X1_converts_122 o a1 r2 r3 r4 t0 t1 t2 t3 S Q → lv_has ls 7 [(0, hp_v B o), (2, hp_v B r2), (3, hp_v B r3), (4, hp_v B r4)] → hp_S B D s0 S H locs → hp_mono Si S → W p l e ({ frames := 7, cells := 0, slots := 0, locals := 448 } : Room) s m args below meth c H locs 0 0 (MQ below (hp_Qi B D s0 (fun r S' => hp_mono Si S' ∧ Q r S')) args s 0 0 (fun q => B < q)) (F0 m 122 ls [.int t3, .int t2, hp_v B t1, hp_v B t0]) := by
    intro r2 r3 r4 t0 t1 t2 t3 S H locs ls h hl hR hm
    unfold wb_X1_converts_122 at h
    obtain ⟨hc12201, h⟩ := h
    refine hp_fi (hp_rV E hR hl (m_X3_lump G _ _ _ _ _ _ hc12201 h) hc12201 (ci := 2) rfl rfl q763 q764 q765 q75 q766 nf_X3_lump ⟨Nat.le_of_ble_eq_true rfl, Nat.le_of_ble_eq_true rfl⟩ (rest := []) rfl (Nat.le_of_ble_eq_true rfl) dX1_converts_122 ⟨Nat.le_of_ble_eq_true rfl, Nat.le_of_ble_eq_true rfl⟩) hR (rfl : 122 + 3 = 125) (fun z12202 Sx H locs hq hR => ?_)
    obtain ⟨hSx, h⟩ := hq
    rw [hSx] at hR
    refine hp_i2l E dX1_converts_125 (rfl : 125 + 1 = 126) ?_
    refine hp_aload_n E hl 2 rfl 1 rfl dX1_converts_126 (rfl : 126 + 1 = 127) ?_
    obtain ⟨hc12203, h⟩ := h
    refine hp_or2 hc12203 (fun hc kk => hp_getI E hR in_X11 hc rfl 2 (Nat.le_of_ble_eq_true rfl) rfl q791 (fun _ h => h) dX1_converts_127 (rfl : 127 + 3 = 130) kk) (fun hc kk => hp_getI E hR in_X12 hc rfl 2 (Nat.le_of_ble_eq_true rfl) rfl q791 (fun _ h => h) dX1_converts_127 (rfl : 127 + 3 = 130) kk) ?_
    refine hp_i2l E dX1_converts_130 (rfl : 130 + 1 = 131) ?_
    refine hp_lmul E dX1_converts_131 (rfl : 131 + 1 = 132) ?_
    refine hp_ldc2 E q1163 dX1_converts_132 (rfl : 132 + 3 = 135) ?_
    refine hp_lmul E dX1_converts_135 (rfl : 135 + 1 = 136) ?_
    refine hp_aload_n E hl 0 rfl 0 rfl dX1_converts_136 (rfl : 136 + 1 = 137) ?_
    refine hp_iconst E (0 : Int32) (by decide) dX1_converts_137 (rfl : 137 + 1 = 138) ?_
    refine hp_aload_n E hl 3 rfl 2 rfl dX1_converts_138 (rfl : 138 + 1 = 139) ?_
    refine hp_aload E hl 3 rfl dX1_converts_139 (rfl : 139 + 2 = 141) ?_
    refine hp_fi (hp_rV E hR hl (m_X1_worth_2 G _ _ _ _ _ _ (hp_mono.c hm hc0) h) (hp_mono.c hm hc0) (ci := 0) rfl rfl q1086 q1088 qs24 q73 q1089 nf_X1_worth_2 ⟨Nat.le_of_ble_eq_true rfl, Nat.le_of_ble_eq_true rfl⟩ (rest := [.long ((z12202.toInt64 * ((st_I S r2 2).toInt64)) * (2 : Int64))]) rfl (Nat.le_of_ble_eq_true rfl) dX1_converts_141 ⟨Nat.le_of_ble_eq_true rfl, Nat.le_of_ble_eq_true rfl⟩) hR (rfl : 141 + 3 = 144) (fun z12204 Sx H locs hq hR => ?_)
    obtain ⟨hSx, h⟩ := hq
    rw [hSx] at hR
    refine hp_i2l E dX1_converts_144 (rfl : 144 + 1 = 145) ?_
    refine hp_lmul E dX1_converts_145 (rfl : 145 + 1 = 146) ?_
    refine hp_ldc2 E q1164 dX1_converts_146 (rfl : 146 + 3 = 149) ?_
    refine hp_ldiv E (by decide) dX1_converts_149 (rfl : 149 + 1 = 150) ?_
    refine hp_lstore E hl 5 (lv' := [(0, hp_v B o), (2, hp_v B r2), (3, hp_v B r3), (4, hp_v B r4)]) dX1_converts_150 (rfl : 150 + 2 = 152) (by decide) (by simp [hp_vc, hp_ci, hp_cj]) (fun ls hl => ?_)
    refine hp_lload E hl 0 rfl dX1_converts_152 (rfl : 152 + 2 = 154) ?_
    refine hp_ldc2 E q1163 dX1_converts_154 (rfl : 154 + 3 = 157) ?_
    refine hp_aload_n E hl 2 rfl 2 rfl dX1_converts_157 (rfl : 157 + 1 = 158) ?_
    refine hp_or2 hc12203 (fun hc kk => hp_getI E hR in_X11 hc rfl 2 (Nat.le_of_ble_eq_true rfl) rfl q791 (fun _ h => h) dX1_converts_158 (rfl : 158 + 3 = 161) kk) (fun hc kk => hp_getI E hR in_X12 hc rfl 2 (Nat.le_of_ble_eq_true rfl) rfl q791 (fun _ h => h) dX1_converts_158 (rfl : 158 + 3 = 161) kk) ?_
    refine hp_i2l E dX1_converts_161 (rfl : 161 + 1 = 162) ?_
    refine hp_lmul E dX1_converts_162 (rfl : 162 + 1 = 163) ?_
    refine hp_aload_n E hl 0 rfl 1 rfl dX1_converts_163 (rfl : 163 + 1 = 164) ?_
    refine hp_iconst E (1 : Int32) (by decide) dX1_converts_164 (rfl : 164 + 1 = 165) ?_
    refine hp_aload_n E hl 3 rfl 3 rfl dX1_converts_165 (rfl : 165 + 1 = 166) ?_
    refine hp_aload E hl 4 rfl dX1_converts_166 (rfl : 166 + 2 = 168) ?_
    refine hp_fi (hp_rV E hR hl (m_X1_worth_2 G _ _ _ _ _ _ (hp_mono.c hm hc0) h) (hp_mono.c hm hc0) (ci := 0) rfl rfl q1086 q1088 qs24 q73 q1089 nf_X1_worth_2 ⟨Nat.le_of_ble_eq_true rfl, Nat.le_of_ble_eq_true rfl⟩ (rest := [.long ((2 : Int64) * ((st_I S r2 2).toInt64)), .long ((((z12202.toInt64 * ((st_I S r2 2).toInt64)) * (2 : Int64)) * z12204.toInt64) / (100 : Int64))]) rfl (Nat.le_of_ble_eq_true rfl) dX1_converts_168 ⟨Nat.le_of_ble_eq_true rfl, Nat.le_of_ble_eq_true rfl⟩) hR (rfl : 168 + 3 = 171) (fun z12205 Sx H locs hq hR => ?_)
    obtain ⟨hSx, h⟩ := hq
    rw [hSx] at hR
    refine hp_i2l E dX1_converts_171 (rfl : 171 + 1 = 172) ?_
    refine hp_lmul E dX1_converts_172 (rfl : 172 + 1 = 173) ?_
    refine hp_lcmp E dX1_converts_173 (rfl : 173 + 1 = 174) ?_
    refine hp_if_le E dX1_converts_174 (rfl : 174 + 3 = 177) (tgt := 181) (by decide) (fun hb => ?_) (fun hb => ?_)
    · have h := h.1 hb
      refine hp_iconst E (0 : Int32) (by decide) dX1_converts_181 (rfl : 181 + 1 = 182) ?_
      exact b182 _ _ _ _ _ h (lv_sub hl [] rfl) hR hm
    · have h := h.2 hb
      refine hp_iconst E (1 : Int32) (by decide) dX1_converts_177 (rfl : 177 + 1 = 178) ?_
      refine hp_goto E (tgt := 182) dX1_converts_178 (by decide) ?_
      exact b182 _ _ _ _ _ h (lv_sub hl [] rfl) hR hm
  have b92 : ∀ (r2 : Nat) (r3 : Nat) (t0 : Nat) (S : hp_St) (H : Heap) (locs : List Loc) (ls : Array Slot), wb_X1_converts_92 o a1 r2 r3 t0 S Q → lv_has ls 7 [(0, hp_v B o), (2, hp_v B r2), (3, hp_v B r3)] → hp_S B D s0 S H locs → hp_mono Si S → W p l e ({ frames := 7, cells := 0, slots := 0, locals := 448 } : Room) s m args below meth c H locs 0 0 (MQ below (hp_Qi B D s0 (fun r S' => hp_mono Si S' ∧ Q r S')) args s 0 0 (fun q => B < q)) (F0 m 92 ls [hp_v B t0]) := by
    intro r2 r3 t0 S H locs ls h hl hR hm
    unfold wb_X1_converts_92 at h
    refine hp_astore E hl 4 (lv' := [(0, hp_v B o), (2, hp_v B r2), (3, hp_v B r3)]) dX1_converts_92 (rfl : 92 + 2 = 94) (by decide) (by simp [hp_vc, hp_ci, hp_cj]) (fun ls hl => ?_)
    refine hp_aload_n E hl 0 rfl 1 rfl dX1_converts_94 (rfl : 94 + 1 = 95) ?_
    refine hp_getR E hR in_X1 (hp_mono.c hm hc0) rfl 7 (Nat.le_of_ble_eq_true rfl) rfl q324 (fun _ h => h) dX1_converts_95 (rfl : 95 + 3 = 98) ?_
    refine hp_aload_n E hl 2 rfl 2 rfl dX1_converts_98 (rfl : 98 + 1 = 99) ?_
    refine hp_aload_n E hl 0 rfl 1 rfl dX1_converts_99 (rfl : 99 + 1 = 100) ?_
    refine hp_getI E hR in_X1 (hp_mono.c hm hc0) rfl 4 (Nat.le_of_ble_eq_true rfl) rfl q320 (fun _ h => h) dX1_converts_100 (rfl : 100 + 3 = 103) ?_
    obtain ⟨hc9201, h⟩ := h
    (try unfold hp_virt at h)
    refine hp_fa (hp_el2 hc9201 (fun hc => hp_rV E hR hl (m_X11_asked G _ _ _ _ hc (h.1 hc)) hc (ci := 10) rfl rfl q1154 q1155 q1156 q97 q1162 nf_X11_asked ⟨Nat.le_of_ble_eq_true rfl, Nat.le_of_ble_eq_true rfl⟩ (rest := [hp_v B (st_R S o 7)]) rfl (Nat.le_of_ble_eq_true rfl) dX1_converts_103 ⟨Nat.le_of_ble_eq_true rfl, Nat.le_of_ble_eq_true rfl⟩) (fun hc => hp_rU E hR hl (m_X12_asked G _ _ _ _ hc (h.2 hc)) hc (ci := 11) rfl q1154 q1159 q1158 q98 q1160 q1157 q1155 q1162 nf_X11_asked ⟨Nat.le_of_ble_eq_true rfl, Nat.le_of_ble_eq_true rfl⟩ (rest := [hp_v B (st_R S o 7)]) rfl (Nat.le_of_ble_eq_true rfl) dX1_converts_103 ⟨Nat.le_of_ble_eq_true rfl, Nat.le_of_ble_eq_true rfl⟩)) hR (rfl : 103 + 3 = 106) (fun z9202 Sx H locs hq hR => ?_)
    obtain ⟨hSx, h⟩ := hq
    rw [hSx] at hR
    refine hp_aload_n E hl 0 rfl 1 rfl dX1_converts_106 (rfl : 106 + 1 = 107) ?_
    refine hp_getI E hR in_X1 (hp_mono.c hm hc0) rfl 4 (Nat.le_of_ble_eq_true rfl) rfl q320 (fun _ h => h) dX1_converts_107 (rfl : 107 + 3 = 110) ?_
    refine hp_aload_n E hl 2 rfl 2 rfl dX1_converts_110 (rfl : 110 + 1 = 111) ?_
    (try unfold hp_virt at h)
    refine hp_fa (hp_el2 hc9201 (fun hc => hp_rV E hR hl (m_X11_second G _ _ _ hc (h.1 hc)) hc (ci := 10) rfl rfl q1149 q1014 q1015 q97 q1020 nf_X11_second ⟨Nat.le_of_ble_eq_true rfl, Nat.le_of_ble_eq_true rfl⟩ (rest := [.int (st_I S o 4), hp_v B z9202, hp_v B (st_R S o 7)]) rfl (Nat.le_of_ble_eq_true rfl) dX1_converts_111 ⟨Nat.le_of_ble_eq_true rfl, Nat.le_of_ble_eq_true rfl⟩) (fun hc => hp_rU E hR hl (m_X12_second G _ _ _ hc (h.2 hc)) hc (ci := 11) rfl q1149 q1018 q1017 q98 q1019 q1016 q1014 q1020 nf_X11_second ⟨Nat.le_of_ble_eq_true rfl, Nat.le_of_ble_eq_true rfl⟩ (rest := [.int (st_I S o 4), hp_v B z9202, hp_v B (st_R S o 7)]) rfl (Nat.le_of_ble_eq_true rfl) dX1_converts_111 ⟨Nat.le_of_ble_eq_true rfl, Nat.le_of_ble_eq_true rfl⟩)) hR (rfl : 111 + 3 = 114) (fun z9204 Sx H locs hq hR => ?_)
    obtain ⟨hSx, h⟩ := hq
    rw [hSx] at hR
    refine hp_ifnull E dX1_converts_114 (rfl : 114 + 3 = 117) (tgt := 121) (by decide) (fun hb => ?_) (fun hb => ?_)
    · have h := h.1 hb
      refine hp_iconst E (0 : Int32) (by decide) dX1_converts_121 (rfl : 121 + 1 = 122) ?_
      exact b122 _ _ _ _ _ _ _ _ _ _ _ h (lv_sub hl [1, 2, 3, 0] rfl) hR hm
    · have h := h.2 hb
      refine hp_iconst E (1 : Int32) (by decide) dX1_converts_117 (rfl : 117 + 1 = 118) ?_
      refine hp_goto E (tgt := 122) dX1_converts_118 (by decide) ?_
      exact b122 _ _ _ _ _ _ _ _ _ _ _ h (lv_sub hl [1, 2, 3, 0] rfl) hR hm
  have b84 : ∀ (r2 : Nat) (r3 : Nat) (S : hp_St) (H : Heap) (locs : List Loc) (ls : Array Slot), wb_X1_converts_84 o a1 r2 r3 S Q → lv_has ls 7 [(0, hp_v B o), (2, hp_v B r2), (3, hp_v B r3)] → hp_S B D s0 S H locs → hp_mono Si S → W p l e ({ frames := 7, cells := 0, slots := 0, locals := 448 } : Room) s m args below meth c H locs 0 0 (MQ below (hp_Qi B D s0 (fun r S' => hp_mono Si S' ∧ Q r S')) args s 0 0 (fun q => B < q)) (F0 m 84 ls []) := by
    intro r2 r3 S H locs ls h hl hR hm
    unfold wb_X1_converts_84 at h
    refine hp_null E dX1_converts_84 (rfl : 84 + 1 = 85) ?_
    refine hp_goto E (tgt := 92) dX1_converts_85 (by decide) ?_
    exact b92 _ _ _ _ _ _ _ h hl hR hm
  have b57 : ∀ (r2 : Nat) (t0 : Nat) (S : hp_St) (H : Heap) (locs : List Loc) (ls : Array Slot), wb_X1_converts_57 o a1 r2 t0 S Q → lv_has ls 7 [(0, hp_v B o), (2, hp_v B r2)] → hp_S B D s0 S H locs → hp_mono Si S → W p l e ({ frames := 7, cells := 0, slots := 0, locals := 448 } : Room) s m args below meth c H locs 0 0 (MQ below (hp_Qi B D s0 (fun r S' => hp_mono Si S' ∧ Q r S')) args s 0 0 (fun q => B < q)) (F0 m 57 ls [hp_v B t0]) := by
    intro r2 t0 S H locs ls h hl hR hm
    unfold wb_X1_converts_57 at h
    refine hp_astore_n E hl 3 rfl (lv' := [(0, hp_v B o), (2, hp_v B r2)]) dX1_converts_57 (rfl : 57 + 1 = 58) (by decide) (by simp [hp_vc, hp_ci, hp_cj]) (fun ls hl => ?_)
    refine hp_aload_n E hl 2 rfl 2 rfl dX1_converts_58 (rfl : 58 + 1 = 59) ?_
    obtain ⟨hc5701, h⟩ := h
    (try unfold hp_virt at h)
    refine hp_fa (hp_el2 hc5701 (fun hc => hp_rV E hR hl (m_X11_second G _ _ _ hc (h.1 hc)) hc (ci := 10) rfl rfl q1149 q1014 q1015 q97 q1020 nf_X11_second ⟨Nat.le_of_ble_eq_true rfl, Nat.le_of_ble_eq_true rfl⟩ (rest := []) rfl (Nat.le_of_ble_eq_true rfl) dX1_converts_59 ⟨Nat.le_of_ble_eq_true rfl, Nat.le_of_ble_eq_true rfl⟩) (fun hc => hp_rU E hR hl (m_X12_second G _ _ _ hc (h.2 hc)) hc (ci := 11) rfl q1149 q1018 q1017 q98 q1019 q1016 q1014 q1020 nf_X11_second ⟨Nat.le_of_ble_eq_true rfl, Nat.le_of_ble_eq_true rfl⟩ (rest := []) rfl (Nat.le_of_ble_eq_true rfl) dX1_converts_59 ⟨Nat.le_of_ble_eq_true rfl, Nat.le_of_ble_eq_true rfl⟩)) hR (rfl : 59 + 3 = 62) (fun z5702 Sx H locs hq hR => ?_)
    obtain ⟨hSx, h⟩ := hq
    rw [hSx] at hR
    refine hp_ifnull E dX1_converts_62 (rfl : 62 + 3 = 65) (tgt := 84) (by decide) (fun hb => ?_) (fun hb => ?_)
    · have h := h.1 hb
      exact b84 _ _ _ _ _ _ h (lv_sub hl [1, 2, 0] rfl) hR hm
    · have h := h.2 hb
      refine hp_aload_n E hl 0 rfl 1 rfl dX1_converts_65 (rfl : 65 + 1 = 66) ?_
      refine hp_getR E hR in_X1 (hp_mono.c hm hc0) rfl 13 (Nat.le_of_ble_eq_true rfl) rfl q336 (fun _ h => h) dX1_converts_66 (rfl : 66 + 3 = 69) ?_
      obtain ⟨hc5704, h⟩ := h
      refine hp_getRN E hR in_X4 hc5704 rfl 0 (Nat.le_of_ble_eq_true rfl) rfl q231 (fun _ h => h) dX1_converts_69 (rfl : 69 + 3 = 72) ?_
      refine hp_aload_n E hl 2 rfl 2 rfl dX1_converts_72 (rfl : 72 + 1 = 73) ?_
      (try unfold hp_virt at h)
      refine hp_fa (hp_el2 hc5701 (fun hc => hp_rV E hR hl (m_X11_second G _ _ _ hc (h.1 hc)) hc (ci := 10) rfl rfl q1149 q1014 q1015 q97 q1020 nf_X11_second ⟨Nat.le_of_ble_eq_true rfl, Nat.le_of_ble_eq_true rfl⟩ (rest := [hp_v B (st_R S (st_R S o 13) 0)]) rfl (Nat.le_of_ble_eq_true rfl) dX1_converts_73 ⟨Nat.le_of_ble_eq_true rfl, Nat.le_of_ble_eq_true rfl⟩) (fun hc => hp_rU E hR hl (m_X12_second G _ _ _ hc (h.2 hc)) hc (ci := 11) rfl q1149 q1018 q1017 q98 q1019 q1016 q1014 q1020 nf_X11_second ⟨Nat.le_of_ble_eq_true rfl, Nat.le_of_ble_eq_true rfl⟩ (rest := [hp_v B (st_R S (st_R S o 13) 0)]) rfl (Nat.le_of_ble_eq_true rfl) dX1_converts_73 ⟨Nat.le_of_ble_eq_true rfl, Nat.le_of_ble_eq_true rfl⟩)) hR (rfl : 73 + 3 = 76) (fun z5705 Sx H locs hq hR => ?_)
      obtain ⟨hSx, h⟩ := hq
      rw [hSx] at hR
      obtain ⟨hc5707, h⟩ := h
      refine hp_getIN E hR in_X10 hc5707 rfl 0 (Nat.le_of_ble_eq_true rfl) rfl q702 (fun _ h => h) dX1_converts_76 (rfl : 76 + 3 = 79) ?_
      obtain ⟨hc5708, h⟩ := h
      obtain ⟨hi5709, h⟩ := h
      refine hp_iald E hR hc5708 hi5709 dX1_converts_79 (rfl : 79 + 1 = 80) ?_
      refine hp_iconst E (-1 : Int32) (by decide) dX1_converts_80 (rfl : 80 + 1 = 81) ?_
      refine hp_icmp_eq E dX1_converts_81 (rfl : 81 + 3 = 84) (tgt := 88) (by decide) (fun hb => ?_) (fun hb => ?_)
      · have h := h.1 hb
        refine hp_aload_n E hl 2 rfl 2 rfl dX1_converts_88 (rfl : 88 + 1 = 89) ?_
        (try unfold hp_virt at h)
        refine hp_fa (hp_el2 hc5701 (fun hc => hp_rV E hR hl (m_X11_second G _ _ _ hc (h.1 hc)) hc (ci := 10) rfl rfl q1149 q1014 q1015 q97 q1020 nf_X11_second ⟨Nat.le_of_ble_eq_true rfl, Nat.le_of_ble_eq_true rfl⟩ (rest := []) rfl (Nat.le_of_ble_eq_true rfl) dX1_converts_89 ⟨Nat.le_of_ble_eq_true rfl, Nat.le_of_ble_eq_true rfl⟩) (fun hc => hp_rU E hR hl (m_X12_second G _ _ _ hc (h.2 hc)) hc (ci := 11) rfl q1149 q1018 q1017 q98 q1019 q1016 q1014 q1020 nf_X11_second ⟨Nat.le_of_ble_eq_true rfl, Nat.le_of_ble_eq_true rfl⟩ (rest := []) rfl (Nat.le_of_ble_eq_true rfl) dX1_converts_89 ⟨Nat.le_of_ble_eq_true rfl, Nat.le_of_ble_eq_true rfl⟩)) hR (rfl : 89 + 3 = 92) (fun z5710 Sx H locs hq hR => ?_)
        obtain ⟨hSx, h⟩ := hq
        rw [hSx] at hR
        exact b92 _ _ _ _ _ _ _ h (lv_sub hl [1, 2, 0] rfl) hR hm
      · have h := h.2 hb
        exact b84 _ _ _ _ _ _ h (lv_sub hl [1, 2, 0] rfl) hR hm
  unfold wp_X1_converts at h
  refine hp_aload_n E hl 0 rfl 0 rfl dX1_converts_0 (rfl : 0 + 1 = 1) ?_
  refine hp_iload_n E hl 1 rfl 1 rfl dX1_converts_1 (rfl : 1 + 1 = 2) ?_
  refine hp_fa (hp_rV E hR hl (m_X1_aRent G _ _ _ _ hc0 h) hc0 (ci := 0) rfl rfl q839 q841 qs17 q73 q842 nf_X1_aRent ⟨Nat.le_of_ble_eq_true rfl, Nat.le_of_ble_eq_true rfl⟩ (rest := []) rfl (Nat.le_of_ble_eq_true rfl) dX1_converts_2 ⟨Nat.le_of_ble_eq_true rfl, Nat.le_of_ble_eq_true rfl⟩) hR (rfl : 2 + 3 = 5) (fun z1 Sx H locs hq hR => ?_)
  obtain ⟨hSx, h⟩ := hq
  rw [hSx] at hR
  refine hp_astore_n E hl 2 rfl (lv' := [(0, hp_v B o), (1, .int a1)]) dX1_converts_5 (rfl : 5 + 1 = 6) (by decide) rfl (fun ls hl => ?_)
  refine hp_aload_n E hl 2 rfl 0 rfl dX1_converts_6 (rfl : 6 + 1 = 7) ?_
  refine hp_ifnonnull E dX1_converts_7 (rfl : 7 + 3 = 10) (tgt := 12) (by decide) (fun hb => ?_) (fun hb => ?_)
  · have h := h.1 hb
    refine hp_iconst E (-1 : Int32) (by decide) dX1_converts_10 (rfl : 10 + 1 = 11) ?_
    exact hp_iret E hR ⟨hm, h⟩ (Nat.le_of_ble_eq_true rfl) (Nat.le_of_ble_eq_true rfl) dX1_converts_11
  · have h := h.2 hb
    refine hp_aload_n E hl 0 rfl 1 rfl dX1_converts_12 (rfl : 12 + 1 = 13) ?_
    refine hp_getR E hR in_X1 hc0 rfl 14 (Nat.le_of_ble_eq_true rfl) rfl q337 (fun _ h => h) dX1_converts_13 (rfl : 13 + 3 = 16) ?_
    refine hp_aload_n E hl 0 rfl 1 rfl dX1_converts_16 (rfl : 16 + 1 = 17) ?_
    refine hp_getR E hR in_X1 hc0 rfl 13 (Nat.le_of_ble_eq_true rfl) rfl q336 (fun _ h => h) dX1_converts_17 (rfl : 17 + 3 = 20) ?_
    refine hp_aload_n E hl 0 rfl 1 rfl dX1_converts_20 (rfl : 20 + 1 = 21) ?_
    refine hp_getI E hR in_X1 hc0 rfl 4 (Nat.le_of_ble_eq_true rfl) rfl q320 (fun _ h => h) dX1_converts_21 (rfl : 21 + 3 = 24) ?_
    obtain ⟨hc2, h⟩ := h
    refine hp_fa (hp_rV E hR hl (m_X4_know G _ _ _ _ hc2 h) hc2 (ci := 3) rfl rfl q946 q947 q948 q79 q949 nf_X4_know ⟨Nat.le_of_ble_eq_true rfl, Nat.le_of_ble_eq_true rfl⟩ (rest := [hp_v B (st_R Si o 14)]) rfl (Nat.le_of_ble_eq_true rfl) dX1_converts_24 ⟨Nat.le_of_ble_eq_true rfl, Nat.le_of_ble_eq_true rfl⟩) hR (rfl : 24 + 3 = 27) (fun z3 S4 H locs hq hR => ?_)
    obtain ⟨hm5, h⟩ := hq
    have h := h hm5
    have hm := hp_mono.tr hm hm5
    obtain ⟨hc6, h⟩ := h
    refine hp_fv (hp_rV E hR hl (m_X5_count G _ _ _ _ hc6 h) hc6 (ci := 4) rfl rfl q1057 q1058 q1059 q80 q1060 nf_X5_count ⟨Nat.le_of_ble_eq_true rfl, Nat.le_of_ble_eq_true rfl⟩ (rest := []) rfl (Nat.le_of_ble_eq_true rfl) dX1_converts_27 ⟨Nat.le_of_ble_eq_true rfl, Nat.le_of_ble_eq_true rfl⟩) hR (rfl : 27 + 3 = 30) (fun S7 H locs hq hR => ?_)
    obtain ⟨hm8, h⟩ := hq
    have h := h hm8
    have hm := hp_mono.tr hm hm8
    refine hp_aload_n E hl 0 rfl 1 rfl dX1_converts_30 (rfl : 30 + 1 = 31) ?_
    refine hp_getR E hR in_X1 (hp_mono.c hm hc0) rfl 13 (Nat.le_of_ble_eq_true rfl) rfl q336 (fun _ h => h) dX1_converts_31 (rfl : 31 + 3 = 34) ?_
    obtain ⟨hc9, h⟩ := h
    refine hp_getRN E hR in_X4 hc9 rfl 0 (Nat.le_of_ble_eq_true rfl) rfl q231 (fun _ h => h) dX1_converts_34 (rfl : 34 + 3 = 37) ?_
    refine hp_aload_n E hl 2 rfl 0 rfl dX1_converts_37 (rfl : 37 + 1 = 38) ?_
    obtain ⟨hc10, h⟩ := h
    refine hp_or2 hc10 (fun hc kk => hp_getR E hR in_X11 hc rfl 4 (Nat.le_of_ble_eq_true rfl) rfl q798 (fun _ h => h) dX1_converts_38 (rfl : 38 + 3 = 41) kk) (fun hc kk => hp_getR E hR in_X12 hc rfl 4 (Nat.le_of_ble_eq_true rfl) rfl q798 (fun _ h => h) dX1_converts_38 (rfl : 38 + 3 = 41) kk) ?_
    obtain ⟨hc11, h⟩ := h
    refine hp_getIN E hR in_X10 hc11 rfl 0 (Nat.le_of_ble_eq_true rfl) rfl q702 (fun _ h => h) dX1_converts_41 (rfl : 41 + 3 = 44) ?_
    obtain ⟨hc12, h⟩ := h
    obtain ⟨hi13, h⟩ := h
    refine hp_iald E hR hc12 hi13 dX1_converts_44 (rfl : 44 + 1 = 45) ?_
    refine hp_iconst E (-1 : Int32) (by decide) dX1_converts_45 (rfl : 45 + 1 = 46) ?_
    refine hp_icmp_ne E dX1_converts_46 (rfl : 46 + 3 = 49) (tgt := 56) (by decide) (fun hb => ?_) (fun hb => ?_)
    · have h := h.1 hb
      refine hp_aload_n E hl 2 rfl 0 rfl dX1_converts_49 (rfl : 49 + 1 = 50) ?_
      refine hp_or2 hc10 (fun hc kk => hp_getR E hR in_X11 hc rfl 4 (Nat.le_of_ble_eq_true rfl) rfl q798 (fun _ h => h) dX1_converts_50 (rfl : 50 + 3 = 53) kk) (fun hc kk => hp_getR E hR in_X12 hc rfl 4 (Nat.le_of_ble_eq_true rfl) rfl q798 (fun _ h => h) dX1_converts_50 (rfl : 50 + 3 = 53) kk) ?_
      refine hp_goto E (tgt := 57) dX1_converts_53 (by decide) ?_
      exact b57 _ _ _ _ _ _ h (lv_sub hl [1, 0] rfl) hR hm
    · have h := h.2 hb
      refine hp_null E dX1_converts_56 (rfl : 56 + 1 = 57) ?_
      exact b57 _ _ _ _ _ _ h (lv_sub hl [1, 0] rfl) hR hm
def wp_X1_count (o : Nat) (a1 : Int32) (S : hp_St) (Q : Int32 → Prop) : Prop := ((a1 = (0 : Int32) → Q (st_I S o 4)) ∧ (a1 = (1 : Int32) → (st_C S (st_R S o 8) = 17) ∧ wp_J2_size (st_R S o 8) S (fun z2 => Q z2)) ∧ (a1 = (2 : Int32) → (st_C S (st_R S o 9) = 17) ∧ wp_J2_size (st_R S o 9) S (fun z4 => Q z4)) ∧ (a1 = (3 : Int32) → (st_C S (st_R S o 10) = 17) ∧ wp_J2_size (st_R S o 10) S (fun z6 => Q z6)) ∧ (a1 = (4 : Int32) → (st_C S (st_R S o 7) = 3) ∧ Q (st_I S (st_R S o 7) 1)) ∧ (a1 = (5 : Int32) → (st_C S (st_R S o 7) = 3) ∧ Q (st_I S (st_R S o 7) 2)) ∧ (a1 = (6 : Int32) → (st_C S (st_R S o 7) = 3) ∧ Q (st_I S (st_R S o 7) 3)) ∧ (a1 = (7 : Int32) → (st_C S (st_R S o 7) = 3) ∧ Q (st_I S (st_R S o 7) 4)) ∧ (a1 = (8 : Int32) → (st_C S (st_R S o 7) = 3) ∧ (st_C S (st_R S (st_R S o 7) 0) = 17) ∧ wp_J2_size (st_R S (st_R S o 7) 0) S (fun z13 => Q z13)) ∧ ((¬ a1 = (0 : Int32) ∧ ¬ a1 = (1 : Int32) ∧ ¬ a1 = (2 : Int32) ∧ ¬ a1 = (3 : Int32) ∧ ¬ a1 = (4 : Int32) ∧ ¬ a1 = (5 : Int32) ∧ ¬ a1 = (6 : Int32) ∧ ¬ a1 = (7 : Int32) ∧ ¬ a1 = (8 : Int32)) → Q (-1 : Int32)))
theorem nf_X1_count : hp_nf yX1_count 1 = true := by decide +kernel
set_option maxHeartbeats 4000000 in
theorem m_X1_count {l : Launch} {B : Nat} {D : va_G} {s0 : State} {b0 : Nat} (G : hp_G l B D s0 b0) (o : Nat) (a1 : Int32) (Si : hp_St) (Q : Int32 → Prop) (hc0 : st_C Si o = 1) (h : wp_X1_count o a1 Si Q) : hp_M l B D s0 yX1_count cX1_count 2 (some .int) 3 192 0 0 [hp_v B o, .int a1] Si (hp_Qi B D s0 (fun r S' => S' = Si ∧ Q r)) := by
  refine hp_start G (by decide +kernel) rfl rfl (lv := [(0, hp_v B o), (1, .int a1)]) (by simp [lg_sl, hp_vc, hp_ci, hp_cj]) (by simp [lv_args, hp_vc, hp_ci, hp_cj]) ?_
  intro p e s m args below meth c E ls hl hR
  unfold wp_X1_count at h
  refine hp_iload_n E hl 1 rfl 1 rfl dX1_count_0 (rfl : 0 + 1 = 1) ?_
  refine hp_case (x := a1) (k := (0 : Int32)) (fun hb => ?_) (fun hn0 => ?_)
  · refine hp_tabIn E hb dX1_count_1 (off := 51) (tgt := 52) (by decide) (by decide) rfl (by decide) ?_
    have h := h.1 hb
    refine hp_aload_n E hl 0 rfl 0 rfl dX1_count_52 (rfl : 52 + 1 = 53) ?_
    refine hp_getI E hR in_X1 hc0 rfl 4 (Nat.le_of_ble_eq_true rfl) rfl q320 (fun _ h => h) dX1_count_53 (rfl : 53 + 3 = 56) ?_
    exact hp_iret E hR ⟨rfl, h⟩ (Nat.le_of_ble_eq_true rfl) (Nat.le_of_ble_eq_true rfl) dX1_count_56
  refine hp_case (x := a1) (k := (1 : Int32)) (fun hb => ?_) (fun hn1 => ?_)
  · refine hp_tabIn E hb dX1_count_1 (off := 56) (tgt := 57) (by decide) (by decide) rfl (by decide) ?_
    have h := h.2.1 hb
    refine hp_aload_n E hl 0 rfl 0 rfl dX1_count_57 (rfl : 57 + 1 = 58) ?_
    refine hp_getR E hR in_X1 hc0 rfl 8 (Nat.le_of_ble_eq_true rfl) rfl q328 (fun _ h => h) dX1_count_58 (rfl : 58 + 3 = 61) ?_
    obtain ⟨hc1, h⟩ := h
    refine hp_fi (hp_rV E hR hl (m_J2_size G _ _ _ hc1 h) hc1 (ci := 16) rfl rfl q691 q545 q546 q78 q547 nf_J2_size ⟨Nat.le_of_ble_eq_true rfl, Nat.le_of_ble_eq_true rfl⟩ (rest := []) rfl (Nat.le_of_ble_eq_true rfl) dX1_count_61 ⟨Nat.le_of_ble_eq_true rfl, Nat.le_of_ble_eq_true rfl⟩) hR (rfl : 61 + 3 = 64) (fun z2 Sx H locs hq hR => ?_)
    obtain ⟨hSx, h⟩ := hq
    rw [hSx] at hR
    exact hp_iret E hR ⟨rfl, h⟩ (Nat.le_of_ble_eq_true rfl) (Nat.le_of_ble_eq_true rfl) dX1_count_64
  refine hp_case (x := a1) (k := (2 : Int32)) (fun hb => ?_) (fun hn2 => ?_)
  · refine hp_tabIn E hb dX1_count_1 (off := 64) (tgt := 65) (by decide) (by decide) rfl (by decide) ?_
    have h := h.2.2.1 hb
    refine hp_aload_n E hl 0 rfl 0 rfl dX1_count_65 (rfl : 65 + 1 = 66) ?_
    refine hp_getR E hR in_X1 hc0 rfl 9 (Nat.le_of_ble_eq_true rfl) rfl q329 (fun _ h => h) dX1_count_66 (rfl : 66 + 3 = 69) ?_
    obtain ⟨hc3, h⟩ := h
    refine hp_fi (hp_rV E hR hl (m_J2_size G _ _ _ hc3 h) hc3 (ci := 16) rfl rfl q691 q545 q546 q78 q547 nf_J2_size ⟨Nat.le_of_ble_eq_true rfl, Nat.le_of_ble_eq_true rfl⟩ (rest := []) rfl (Nat.le_of_ble_eq_true rfl) dX1_count_69 ⟨Nat.le_of_ble_eq_true rfl, Nat.le_of_ble_eq_true rfl⟩) hR (rfl : 69 + 3 = 72) (fun z4 Sx H locs hq hR => ?_)
    obtain ⟨hSx, h⟩ := hq
    rw [hSx] at hR
    exact hp_iret E hR ⟨rfl, h⟩ (Nat.le_of_ble_eq_true rfl) (Nat.le_of_ble_eq_true rfl) dX1_count_72
  refine hp_case (x := a1) (k := (3 : Int32)) (fun hb => ?_) (fun hn3 => ?_)
  · refine hp_tabIn E hb dX1_count_1 (off := 72) (tgt := 73) (by decide) (by decide) rfl (by decide) ?_
    have h := h.2.2.2.1 hb
    refine hp_aload_n E hl 0 rfl 0 rfl dX1_count_73 (rfl : 73 + 1 = 74) ?_
    refine hp_getR E hR in_X1 hc0 rfl 10 (Nat.le_of_ble_eq_true rfl) rfl q331 (fun _ h => h) dX1_count_74 (rfl : 74 + 3 = 77) ?_
    obtain ⟨hc5, h⟩ := h
    refine hp_fi (hp_rV E hR hl (m_J2_size G _ _ _ hc5 h) hc5 (ci := 16) rfl rfl q691 q545 q546 q78 q547 nf_J2_size ⟨Nat.le_of_ble_eq_true rfl, Nat.le_of_ble_eq_true rfl⟩ (rest := []) rfl (Nat.le_of_ble_eq_true rfl) dX1_count_77 ⟨Nat.le_of_ble_eq_true rfl, Nat.le_of_ble_eq_true rfl⟩) hR (rfl : 77 + 3 = 80) (fun z6 Sx H locs hq hR => ?_)
    obtain ⟨hSx, h⟩ := hq
    rw [hSx] at hR
    exact hp_iret E hR ⟨rfl, h⟩ (Nat.le_of_ble_eq_true rfl) (Nat.le_of_ble_eq_true rfl) dX1_count_80
  refine hp_case (x := a1) (k := (4 : Int32)) (fun hb => ?_) (fun hn4 => ?_)
  · refine hp_tabIn E hb dX1_count_1 (off := 80) (tgt := 81) (by decide) (by decide) rfl (by decide) ?_
    have h := h.2.2.2.2.1 hb
    refine hp_aload_n E hl 0 rfl 0 rfl dX1_count_81 (rfl : 81 + 1 = 82) ?_
    refine hp_getR E hR in_X1 hc0 rfl 7 (Nat.le_of_ble_eq_true rfl) rfl q324 (fun _ h => h) dX1_count_82 (rfl : 82 + 3 = 85) ?_
    obtain ⟨hc7, h⟩ := h
    refine hp_getIN E hR in_X3 hc7 rfl 1 (Nat.le_of_ble_eq_true rfl) rfl q188 (fun _ h => h) dX1_count_85 (rfl : 85 + 3 = 88) ?_
    exact hp_iret E hR ⟨rfl, h⟩ (Nat.le_of_ble_eq_true rfl) (Nat.le_of_ble_eq_true rfl) dX1_count_88
  refine hp_case (x := a1) (k := (5 : Int32)) (fun hb => ?_) (fun hn5 => ?_)
  · refine hp_tabIn E hb dX1_count_1 (off := 88) (tgt := 89) (by decide) (by decide) rfl (by decide) ?_
    have h := h.2.2.2.2.2.1 hb
    refine hp_aload_n E hl 0 rfl 0 rfl dX1_count_89 (rfl : 89 + 1 = 90) ?_
    refine hp_getR E hR in_X1 hc0 rfl 7 (Nat.le_of_ble_eq_true rfl) rfl q324 (fun _ h => h) dX1_count_90 (rfl : 90 + 3 = 93) ?_
    obtain ⟨hc8, h⟩ := h
    refine hp_getIN E hR in_X3 hc8 rfl 2 (Nat.le_of_ble_eq_true rfl) rfl q191 (fun _ h => h) dX1_count_93 (rfl : 93 + 3 = 96) ?_
    exact hp_iret E hR ⟨rfl, h⟩ (Nat.le_of_ble_eq_true rfl) (Nat.le_of_ble_eq_true rfl) dX1_count_96
  refine hp_case (x := a1) (k := (6 : Int32)) (fun hb => ?_) (fun hn6 => ?_)
  · refine hp_tabIn E hb dX1_count_1 (off := 96) (tgt := 97) (by decide) (by decide) rfl (by decide) ?_
    have h := h.2.2.2.2.2.2.1 hb
    refine hp_aload_n E hl 0 rfl 0 rfl dX1_count_97 (rfl : 97 + 1 = 98) ?_
    refine hp_getR E hR in_X1 hc0 rfl 7 (Nat.le_of_ble_eq_true rfl) rfl q324 (fun _ h => h) dX1_count_98 (rfl : 98 + 3 = 101) ?_
    obtain ⟨hc9, h⟩ := h
    refine hp_getIN E hR in_X3 hc9 rfl 3 (Nat.le_of_ble_eq_true rfl) rfl q193 (fun _ h => h) dX1_count_101 (rfl : 101 + 3 = 104) ?_
    exact hp_iret E hR ⟨rfl, h⟩ (Nat.le_of_ble_eq_true rfl) (Nat.le_of_ble_eq_true rfl) dX1_count_104
  refine hp_case (x := a1) (k := (7 : Int32)) (fun hb => ?_) (fun hn7 => ?_)
  · refine hp_tabIn E hb dX1_count_1 (off := 104) (tgt := 105) (by decide) (by decide) rfl (by decide) ?_
    have h := h.2.2.2.2.2.2.2.1 hb
    refine hp_aload_n E hl 0 rfl 0 rfl dX1_count_105 (rfl : 105 + 1 = 106) ?_
    refine hp_getR E hR in_X1 hc0 rfl 7 (Nat.le_of_ble_eq_true rfl) rfl q324 (fun _ h => h) dX1_count_106 (rfl : 106 + 3 = 109) ?_
    obtain ⟨hc10, h⟩ := h
    refine hp_getIN E hR in_X3 hc10 rfl 4 (Nat.le_of_ble_eq_true rfl) rfl q198 (fun _ h => h) dX1_count_109 (rfl : 109 + 3 = 112) ?_
    exact hp_iret E hR ⟨rfl, h⟩ (Nat.le_of_ble_eq_true rfl) (Nat.le_of_ble_eq_true rfl) dX1_count_112
  refine hp_case (x := a1) (k := (8 : Int32)) (fun hb => ?_) (fun hn8 => ?_)
  · refine hp_tabIn E hb dX1_count_1 (off := 112) (tgt := 113) (by decide) (by decide) rfl (by decide) ?_
    have h := h.2.2.2.2.2.2.2.2.1 hb
    refine hp_aload_n E hl 0 rfl 0 rfl dX1_count_113 (rfl : 113 + 1 = 114) ?_
    refine hp_getR E hR in_X1 hc0 rfl 7 (Nat.le_of_ble_eq_true rfl) rfl q324 (fun _ h => h) dX1_count_114 (rfl : 114 + 3 = 117) ?_
    obtain ⟨hc11, h⟩ := h
    refine hp_getRN E hR in_X3 hc11 rfl 0 (Nat.le_of_ble_eq_true rfl) rfl q185 (fun _ h => h) dX1_count_117 (rfl : 117 + 3 = 120) ?_
    obtain ⟨hc12, h⟩ := h
    refine hp_fi (hp_rV E hR hl (m_J2_size G _ _ _ hc12 h) hc12 (ci := 16) rfl rfl q691 q545 q546 q78 q547 nf_J2_size ⟨Nat.le_of_ble_eq_true rfl, Nat.le_of_ble_eq_true rfl⟩ (rest := []) rfl (Nat.le_of_ble_eq_true rfl) dX1_count_120 ⟨Nat.le_of_ble_eq_true rfl, Nat.le_of_ble_eq_true rfl⟩) hR (rfl : 120 + 3 = 123) (fun z13 Sx H locs hq hR => ?_)
    obtain ⟨hSx, h⟩ := hq
    rw [hSx] at hR
    exact hp_iret E hR ⟨rfl, h⟩ (Nat.le_of_ble_eq_true rfl) (Nat.le_of_ble_eq_true rfl) dX1_count_123
  have hno : ¬ a1 = (0 : Int32) ∧ ¬ a1 = (1 : Int32) ∧ ¬ a1 = (2 : Int32) ∧ ¬ a1 = (3 : Int32) ∧ ¬ a1 = (4 : Int32) ∧ ¬ a1 = (5 : Int32) ∧ ¬ a1 = (6 : Int32) ∧ ¬ a1 = (7 : Int32) ∧ ¬ a1 = (8 : Int32) := ⟨hn0, hn1, hn2, hn3, hn4, hn5, hn6, hn7, hn8⟩
  have h := h.2.2.2.2.2.2.2.2.2 hno
  refine hp_tabOut E dX1_count_1 (tgt := 124) (hp_out9 hno) (by decide) ?_
  refine hp_iconst E (-1 : Int32) (by decide) dX1_count_124 (rfl : 124 + 1 = 125) ?_
  exact hp_iret E hR ⟨rfl, h⟩ (Nat.le_of_ble_eq_true rfl) (Nat.le_of_ble_eq_true rfl) dX1_count_125
def wb_X2_here_31 (o : Nat) (t0 : Int32) (S : hp_St) (Q : Int32 → Prop) : Prop := Q t0
def wp_X2_here (o : Nat) (S : hp_St) (Q : Int32 → Prop) : Prop := ((((st_I S o 0) < (st_I S o 1)) → (st_C S (st_R S o 7) = 1) ∧ (st_C S (st_R S (st_R S o 7) 0) = 52) ∧ (vp_in (st_I S o 0) (st_L S (st_R S (st_R S o 7) 0))) ∧ wb_X2_here_31 o ((st_I S (st_R S (st_R S o 7) 0) (st_I S o 0).toNatClampNeg) &&& (255 : Int32)) S Q) ∧ ((¬ ((st_I S o 0) < (st_I S o 1))) → wb_X2_here_31 o (-1 : Int32) S Q))
theorem nf_X2_here : hp_nf yX2_here 0 = true := by decide +kernel
set_option maxHeartbeats 4000000 in
theorem m_X2_here {l : Launch} {B : Nat} {D : va_G} {s0 : State} {b0 : Nat} (G : hp_G l B D s0 b0) (o : Nat) (Si : hp_St) (Q : Int32 → Prop) (hc0 : st_C Si o = 2) (h : wp_X2_here o Si Q) : hp_M l B D s0 yX2_here cX2_here 1 (some .int) 2 128 0 0 [hp_v B o] Si (hp_Qi B D s0 (fun r S' => S' = Si ∧ Q r)) := by
  refine hp_start G (by decide +kernel) rfl rfl (lv := [(0, hp_v B o)]) (by simp [lg_sl, hp_vc, hp_ci, hp_cj]) (by simp [lv_args, hp_vc, hp_ci, hp_cj]) ?_
  intro p e s m args below meth c E ls hl hR
  generalize hH : s.heap = H at hR ⊢
  generalize hLo : ([] : List Loc) = locs at hR ⊢
  have b31 : ∀ (t0 : Int32) (H : Heap) (locs : List Loc) (ls : Array Slot), wb_X2_here_31 o t0 Si Q → lv_has ls 1 [] → hp_S B D s0 Si H locs → W p l e ({ frames := 2, cells := 0, slots := 0, locals := 128 } : Room) s m args below meth c H locs 0 0 (MQ below (hp_Qi B D s0 (fun r S' => S' = Si ∧ Q r)) args s 0 0 (fun q => B < q)) (F0 m 31 ls [.int t0]) := by
    intro t0 H locs ls h hl hR
    unfold wb_X2_here_31 at h
    exact hp_iret E hR ⟨rfl, h⟩ (Nat.le_of_ble_eq_true rfl) (Nat.le_of_ble_eq_true rfl) dX2_here_31
  unfold wp_X2_here at h
  refine hp_aload_n E hl 0 rfl 0 rfl dX2_here_0 (rfl : 0 + 1 = 1) ?_
  refine hp_getI E hR in_X2 hc0 rfl 0 (Nat.le_of_ble_eq_true rfl) rfl q123 (fun _ h => h) dX2_here_1 (rfl : 1 + 3 = 4) ?_
  refine hp_aload_n E hl 0 rfl 0 rfl dX2_here_4 (rfl : 4 + 1 = 5) ?_
  refine hp_getI E hR in_X2 hc0 rfl 1 (Nat.le_of_ble_eq_true rfl) rfl q124 (fun _ h => h) dX2_here_5 (rfl : 5 + 3 = 8) ?_
  refine hp_icmp_ge E dX2_here_8 (rfl : 8 + 3 = 11) (tgt := 30) (by decide) (fun hb => ?_) (fun hb => ?_)
  · have h := h.1 hb
    refine hp_aload_n E hl 0 rfl 0 rfl dX2_here_11 (rfl : 11 + 1 = 12) ?_
    refine hp_getR E hR in_X2 hc0 rfl 7 (Nat.le_of_ble_eq_true rfl) rfl q130 (fun _ h => h) dX2_here_12 (rfl : 12 + 3 = 15) ?_
    obtain ⟨hc1, h⟩ := h
    refine hp_getRN E hR in_X1 hc1 rfl 0 (Nat.le_of_ble_eq_true rfl) rfl q314 (fun _ h => h) dX2_here_15 (rfl : 15 + 3 = 18) ?_
    refine hp_aload_n E hl 0 rfl 0 rfl dX2_here_18 (rfl : 18 + 1 = 19) ?_
    refine hp_getI E hR in_X2 hc0 rfl 0 (Nat.le_of_ble_eq_true rfl) rfl q123 (fun _ h => h) dX2_here_19 (rfl : 19 + 3 = 22) ?_
    obtain ⟨hc2, h⟩ := h
    obtain ⟨hi3, h⟩ := h
    refine hp_bald E hR hc2 hi3 dX2_here_22 (rfl : 22 + 1 = 23) ?_
    refine hp_sipush E (255 : Int32) (by decide) dX2_here_23 (rfl : 23 + 3 = 26) ?_
    refine hp_iand E dX2_here_26 (rfl : 26 + 1 = 27) ?_
    refine hp_goto E (tgt := 31) dX2_here_27 (by decide) ?_
    exact b31 _ _ _ _ h (lv_sub hl [] rfl) hR
  · have h := h.2 hb
    refine hp_iconst E (-1 : Int32) (by decide) dX2_here_30 (rfl : 30 + 1 = 31) ?_
    exact b31 _ _ _ _ h (lv_sub hl [] rfl) hR
def wb_X2_next_18 (o : Nat) (S : hp_St) (K0 : hp_St → Prop) (Q : hp_St → Prop) : Prop := (∀ S1801, S1801 = st_pI S o 0 ((st_I S o 0) + (1 : Int32)) → K0 S1801)
def wb_X2_next_242 (o : Nat) (S : hp_St) (Q : hp_St → Prop) : Prop := Q S
def wb_X2_next_229 (o : Nat) (t0 : Nat) (t1 : Int32) (S : hp_St) (Q : hp_St → Prop) : Prop := (st_C S t0 = 2) ∧ (∀ S22902, S22902 = st_pI S t0 3 t1 → (∀ S22905, S22905 = st_pI S22902 o 0 ((st_I S22902 o 0) + (1 : Int32)) → wb_X2_next_242 o S22905 Q))
def wb_X2_next_198 (o : Nat) (t0 : Nat) (t1 : Int32) (S : hp_St) (K151 : hp_St → Prop) (Q : hp_St → Prop) : Prop := (st_C S t0 = 2) ∧ (∀ S19802, S19802 = st_pI S t0 4 t1 → (∀ S19805, S19805 = st_pI S19802 o 0 ((st_I S19802 o 0) + (1 : Int32)) → K151 S19805))
def wb_X2_next_151 (o : Nat) (S : hp_St) (K151 : hp_St → Prop) (Q : hp_St → Prop) : Prop := wp_X2_here o S (fun z15101 => wp_X1_in z15101 (48 : Int32) (57 : Int32) S (fun z15102 => (((z15102 = 0) → wb_X2_next_242 o S Q) ∧ ((¬ (z15102 = 0)) → ((((st_I S o 4) ≤ (9999 : Int32)) → wp_X2_here o S (fun z15103 => wb_X2_next_198 o o ((((10 : Int32) * (st_I S o 4)) + z15103) - (48 : Int32)) S K151 Q)) ∧ ((¬ ((st_I S o 4) ≤ (9999 : Int32))) → wb_X2_next_198 o o (st_I S o 4) S K151 Q))))))
def wl_X2_next_151 (o : Nat) (S : hp_St) (Q : hp_St → Prop) : Prop := ∃ (I : hp_St → Prop) (μ : hp_St → Nat), I S ∧ ∀ (S1 : hp_St), hp_mono S S1 → I S1 → wb_X2_next_151 o S1 (fun S2 => I S2 ∧ μ S2 < μ S1) Q
def wb_X2_next_121 (o : Nat) (t0 : Nat) (t1 : Int32) (S : hp_St) (Q : hp_St → Prop) : Prop := (st_C S t0 = 2) ∧ (∀ S12102, S12102 = st_pI S t0 3 t1 → wb_X2_next_242 o S12102 Q)
def wb_X2_next_72 (o : Nat) (S : hp_St) (K72 : hp_St → Prop) (Q : hp_St → Prop) : Prop := wp_X2_here o S (fun z7201 => wp_X1_in z7201 (97 : Int32) (122 : Int32) S (fun z7202 => (((z7202 = 0) → wp_X2_word o S (fun z7203 => (∀ S7204, S7204 = st_pI S o 4 z7203 → ((((st_I S7204 o 4) = (-1 : Int32)) → wb_X2_next_121 o o (4 : Int32) S7204 Q) ∧ ((¬ ((st_I S7204 o 4) = (-1 : Int32))) → wb_X2_next_121 o o (0 : Int32) S7204 Q))))) ∧ ((¬ (z7202 = 0)) → (∀ S7207, S7207 = st_pI S o 0 ((st_I S o 0) + (1 : Int32)) → K72 S7207)))))
def wl_X2_next_72 (o : Nat) (S : hp_St) (Q : hp_St → Prop) : Prop := ∃ (I : hp_St → Prop) (μ : hp_St → Nat), I S ∧ ∀ (S1 : hp_St), hp_mono S S1 → I S1 → wb_X2_next_72 o S1 (fun S2 => I S2 ∧ μ S2 < μ S1) Q
def wb_X2_next_0 (o : Nat) (S : hp_St) (K0 : hp_St → Prop) (Q : hp_St → Prop) : Prop := wp_X2_here o S (fun z1 => (((z1 = (10 : Int32)) → wb_X2_next_18 o S K0 Q) ∧ ((¬ (z1 = (10 : Int32))) → wp_X2_here o S (fun z2 => (((z2 = (32 : Int32)) → wb_X2_next_18 o S K0 Q) ∧ ((¬ (z2 = (32 : Int32))) → (∀ S3, S3 = st_pI S o 2 (st_I S o 0) → ((((st_I S3 o 0) = (st_I S3 o 1)) → (∀ S6, S6 = st_pI S3 o 3 (3 : Int32) → wb_X2_next_242 o S6 Q)) ∧ ((¬ ((st_I S3 o 0) = (st_I S3 o 1))) → wp_X2_here o S3 (fun z9 => wp_X1_in z9 (97 : Int32) (122 : Int32) S3 (fun z10 => (((z10 = 0) → wp_X2_here o S3 (fun z11 => wp_X1_in z11 (48 : Int32) (57 : Int32) S3 (fun z12 => (((z12 = 0) → wp_X2_here o S3 (fun z13 => (((z13 = (59 : Int32)) → wb_X2_next_229 o o (2 : Int32) S3 Q) ∧ ((¬ (z13 = (59 : Int32))) → wb_X2_next_229 o o (4 : Int32) S3 Q)))) ∧ ((¬ (z12 = 0)) → (∀ S14, S14 = st_pI S3 o 3 (1 : Int32) → (∀ S17, S17 = st_pI S14 o 4 (0 : Int32) → wl_X2_next_151 o S17 Q))))))) ∧ ((¬ (z10 = 0)) → wl_X2_next_72 o S3 Q)))))))))))))
def wl_X2_next_0 (o : Nat) (S : hp_St) (Q : hp_St → Prop) : Prop := ∃ (I : hp_St → Prop) (μ : hp_St → Nat), I S ∧ ∀ (S1 : hp_St), hp_mono S S1 → I S1 → wb_X2_next_0 o S1 (fun S2 => I S2 ∧ μ S2 < μ S1) Q
def wp_X2_next (o : Nat) (S : hp_St) (Q : hp_St → Prop) : Prop := wl_X2_next_0 o S Q
theorem nf_X2_next : hp_nf yX2_next 0 = true := by decide +kernel
set_option maxHeartbeats 4000000 in
theorem m_X2_next {l : Launch} {B : Nat} {D : va_G} {s0 : State} {b0 : Nat} (G : hp_G l B D s0 b0) (o : Nat) (Si : hp_St) (Q : hp_St → Prop) (hc0 : st_C Si o = 2) (h : wp_X2_next o Si Q) : hp_M l B D s0 yX2_next cX2_next 1 none 7 448 0 0 [hp_v B o] Si (hp_Qv B D s0 (fun S' => hp_mono Si S' ∧ Q S')) := by
  refine hp_start G (by decide +kernel) rfl rfl (lv := [(0, hp_v B o)]) (by simp [lg_sl, hp_vc, hp_ci, hp_cj]) (by simp [lv_args, hp_vc, hp_ci, hp_cj]) ?_
  intro p e s m args below meth c E ls hl hR
  have hm : hp_mono Si Si := hp_mono.rf
  generalize hH : s.heap = H at hR ⊢
  generalize hLo : ([] : List Loc) = locs at hR ⊢
  have b242 : ∀ (S : hp_St) (H : Heap) (locs : List Loc) (ls : Array Slot), wb_X2_next_242 o S Q → lv_has ls 1 [] → hp_S B D s0 S H locs → hp_mono Si S → W p l e ({ frames := 7, cells := 0, slots := 0, locals := 448 } : Room) s m args below meth c H locs 0 0 (MQ below (hp_Qv B D s0 (fun S' => hp_mono Si S' ∧ Q S')) args s 0 0 (fun q => B < q)) (F0 m 242 ls []) := by
    intro S H locs ls h hl hR hm
    unfold wb_X2_next_242 at h
    exact hp_vret E hR ⟨hm, h⟩ (Nat.le_of_ble_eq_true rfl) (Nat.le_of_ble_eq_true rfl) dX2_next_242
  have b229 : ∀ (t0 : Nat) (t1 : Int32) (S : hp_St) (H : Heap) (locs : List Loc) (ls : Array Slot), wb_X2_next_229 o t0 t1 S Q → lv_has ls 1 [(0, hp_v B o)] → hp_S B D s0 S H locs → hp_mono Si S → W p l e ({ frames := 7, cells := 0, slots := 0, locals := 448 } : Room) s m args below meth c H locs 0 0 (MQ below (hp_Qv B D s0 (fun S' => hp_mono Si S' ∧ Q S')) args s 0 0 (fun q => B < q)) (F0 m 229 ls [.int t1, hp_v B t0]) := by
    intro t0 t1 S H locs ls h hl hR hm
    unfold wb_X2_next_229 at h
    obtain ⟨hc22901, h⟩ := h
    refine hx_putI E hR in_X2 tyX2 tyX2_ok nmX2 hc22901 rfl 3 (Nat.le_of_ble_eq_true rfl) rfl q126 (fun _ h => h) (Or.inl rfl) (Or.inl rfl) dX2_next_229 (rfl : 229 + 3 = 232) (fun S22902 H locs e22904 hm22903 hR => ?_)
    have h := h S22902 e22904
    have hm := hp_mono.tr hm hm22903
    refine hp_aload_n E hl 0 rfl 0 rfl dX2_next_232 (rfl : 232 + 1 = 233) ?_
    refine hp_dup E hp_vc dX2_next_233 (rfl : 233 + 1 = 234) ?_
    refine hp_getI E hR in_X2 (hp_mono.c hm hc0) rfl 0 (Nat.le_of_ble_eq_true rfl) rfl q123 (fun _ h => h) dX2_next_234 (rfl : 234 + 3 = 237) ?_
    refine hp_iconst E (1 : Int32) (by decide) dX2_next_237 (rfl : 237 + 1 = 238) ?_
    refine hp_iadd E dX2_next_238 (rfl : 238 + 1 = 239) ?_
    refine hx_putI E hR in_X2 tyX2 tyX2_ok nmX2 (hp_mono.c hm hc0) rfl 0 (Nat.le_of_ble_eq_true rfl) rfl q123 (fun _ h => h) (Or.inl rfl) (Or.inl rfl) dX2_next_239 (rfl : 239 + 3 = 242) (fun S22905 H locs e22907 hm22906 hR => ?_)
    have h := h S22905 e22907
    have hm := hp_mono.tr hm hm22906
    exact b242 _ _ _ _ h (lv_sub hl [] rfl) hR hm
  have b151 : ∀ (S : hp_St) (H : Heap) (locs : List Loc) (ls : Array Slot), wl_X2_next_151 o S Q → lv_has ls 1 [(0, hp_v B o)] → hp_S B D s0 S H locs → hp_mono Si S → W p l e ({ frames := 7, cells := 0, slots := 0, locals := 448 } : Room) s m args below meth c H locs 0 0 (MQ below (hp_Qv B D s0 (fun S' => hp_mono Si S' ∧ Q S')) args s 0 0 (fun q => B < q)) (F0 m 151 ls []) := by
    intro S H locs ls h hl hR hm
    obtain ⟨I151, μ151, hI, hst⟩ := h
    obtain ⟨Sa151, eSa151⟩ : ∃ x, x = S := ⟨_, rfl⟩
    subst eSa151
    have key151 : ∀ (N : Nat) (Su151 : hp_St) (H : Heap) (locs : List Loc) (ls : Array Slot), μ151 Su151 < N → I151 Su151 → lv_has ls 1 [(0, hp_v B o)] → hp_S B D s0 Su151 H locs → hp_mono Sa151 Su151 → W p l e ({ frames := 7, cells := 0, slots := 0, locals := 448 } : Room) s m args below meth c H locs 0 0 (MQ below (hp_Qv B D s0 (fun S' => hp_mono Si S' ∧ Q S')) args s 0 0 (fun q => B < q)) (F0 m 151 ls []) := by
      intro N
      induction N with
      | zero =>
        intro Su151 H locs ls hN
        exact absurd hN (Nat.not_lt_zero _)
      | succ N ih151 =>
        intro Su151 H locs ls hN hI hl hR ms151
        have h := hst Su151 ms151 hI
        have hm := hp_mono.tr hm ms151
        obtain ⟨K151, hKe151⟩ : ∃ K : hp_St → Prop, K = (fun Sk => I151 Sk ∧ μ151 Sk < μ151 Su151) := ⟨_, rfl⟩
        rw [← hKe151] at h
        have hK151 : ∀ (Sk : hp_St) (H : Heap) (locs : List Loc) (ls : Array Slot), K151 Sk → lv_has ls 1 [(0, hp_v B o)] → hp_S B D s0 Sk H locs → hp_mono Sa151 Sk → W p l e ({ frames := 7, cells := 0, slots := 0, locals := 448 } : Room) s m args below meth c H locs 0 0 (MQ below (hp_Qv B D s0 (fun S' => hp_mono Si S' ∧ Q S')) args s 0 0 (fun q => B < q)) (F0 m 151 ls []) := by
          intro Sk H locs ls hI hl hR ms
          rw [hKe151] at hI
          exact ih151 Sk H locs ls (Nat.lt_of_lt_of_le hI.2 (Nat.le_of_lt_succ hN)) hI.1 hl hR ms
        have b198 : ∀ (t0 : Nat) (t1 : Int32) (S : hp_St) (H : Heap) (locs : List Loc) (ls : Array Slot), wb_X2_next_198 o t0 t1 S K151 Q → lv_has ls 1 [(0, hp_v B o)] → hp_S B D s0 S H locs → hp_mono Si S → hp_mono Sa151 S → W p l e ({ frames := 7, cells := 0, slots := 0, locals := 448 } : Room) s m args below meth c H locs 0 0 (MQ below (hp_Qv B D s0 (fun S' => hp_mono Si S' ∧ Q S')) args s 0 0 (fun q => B < q)) (F0 m 198 ls [.int t1, hp_v B t0]) := by
          intro t0 t1 S H locs ls h hl hR hm ms151
          unfold wb_X2_next_198 at h
          obtain ⟨hc19801, h⟩ := h
          refine hx_putI E hR in_X2 tyX2 tyX2_ok nmX2 hc19801 rfl 4 (Nat.le_of_ble_eq_true rfl) rfl q127 (fun _ h => h) (Or.inl rfl) (Or.inl rfl) dX2_next_198 (rfl : 198 + 3 = 201) (fun S19802 H locs e19804 hm19803 hR => ?_)
          have h := h S19802 e19804
          have hm := hp_mono.tr hm hm19803
          have ms151 := hp_mono.tr ms151 hm19803
          refine hp_aload_n E hl 0 rfl 0 rfl dX2_next_201 (rfl : 201 + 1 = 202) ?_
          refine hp_dup E hp_vc dX2_next_202 (rfl : 202 + 1 = 203) ?_
          refine hp_getI E hR in_X2 (hp_mono.c hm hc0) rfl 0 (Nat.le_of_ble_eq_true rfl) rfl q123 (fun _ h => h) dX2_next_203 (rfl : 203 + 3 = 206) ?_
          refine hp_iconst E (1 : Int32) (by decide) dX2_next_206 (rfl : 206 + 1 = 207) ?_
          refine hp_iadd E dX2_next_207 (rfl : 207 + 1 = 208) ?_
          refine hx_putI E hR in_X2 tyX2 tyX2_ok nmX2 (hp_mono.c hm hc0) rfl 0 (Nat.le_of_ble_eq_true rfl) rfl q123 (fun _ h => h) (Or.inl rfl) (Or.inl rfl) dX2_next_208 (rfl : 208 + 3 = 211) (fun S19805 H locs e19807 hm19806 hR => ?_)
          have h := h S19805 e19807
          have hm := hp_mono.tr hm hm19806
          have ms151 := hp_mono.tr ms151 hm19806
          refine hp_goto E (tgt := 151) dX2_next_211 (by decide) ?_
          exact hK151 _ _ _ _ h hl hR ms151
        unfold wb_X2_next_151 at h
        refine hp_aload_n E hl 0 rfl 0 rfl dX2_next_151 (rfl : 151 + 1 = 152) ?_
        refine hp_fi (hp_rV E hR hl (m_X2_here G _ _ _ (hp_mono.c hm hc0) h) (hp_mono.c hm hc0) (ci := 1) rfl rfl q407 q409 qs2 q74 q410 nf_X2_here ⟨Nat.le_of_ble_eq_true rfl, Nat.le_of_ble_eq_true rfl⟩ (rest := []) rfl (Nat.le_of_ble_eq_true rfl) dX2_next_152 ⟨Nat.le_of_ble_eq_true rfl, Nat.le_of_ble_eq_true rfl⟩) hR (rfl : 152 + 3 = 155) (fun z15101 Sx H locs hq hR => ?_)
        obtain ⟨hSx, h⟩ := hq
        rw [hSx] at hR
        refine hp_bipush E (48 : Int32) (by decide) dX2_next_155 (rfl : 155 + 2 = 157) ?_
        refine hp_bipush E (57 : Int32) (by decide) dX2_next_157 (rfl : 157 + 2 = 159) ?_
        refine hp_fi (hp_rSN E hR hl (m_X1_in G _ _ _ _ _ h) q411 q395 q73 q396 nf_X1_in ⟨Nat.le_of_ble_eq_true rfl, Nat.le_of_ble_eq_true rfl⟩ (rest := []) rfl (Nat.le_of_ble_eq_true rfl) dX2_next_159 ⟨Nat.le_of_ble_eq_true rfl, Nat.le_of_ble_eq_true rfl⟩) hR (rfl : 159 + 3 = 162) (fun z15102 Sx H locs hq hR => ?_)
        obtain ⟨hSx, h⟩ := hq
        rw [hSx] at hR
        refine hp_if_eq E dX2_next_162 (rfl : 162 + 3 = 165) (tgt := 242) (by decide) (fun hb => ?_) (fun hb => ?_)
        · have h := h.1 hb
          exact b242 _ _ _ _ h (lv_sub hl [] rfl) hR hm
        · have h := h.2 hb
          refine hp_aload_n E hl 0 rfl 0 rfl dX2_next_165 (rfl : 165 + 1 = 166) ?_
          refine hp_aload_n E hl 0 rfl 0 rfl dX2_next_166 (rfl : 166 + 1 = 167) ?_
          refine hp_getI E hR in_X2 (hp_mono.c hm hc0) rfl 4 (Nat.le_of_ble_eq_true rfl) rfl q127 (fun _ h => h) dX2_next_167 (rfl : 167 + 3 = 170) ?_
          refine hp_sipush E (9999 : Int32) (by decide) dX2_next_170 (rfl : 170 + 3 = 173) ?_
          refine hp_icmp_le E dX2_next_173 (rfl : 173 + 3 = 176) (tgt := 183) (by decide) (fun hb => ?_) (fun hb => ?_)
          · have h := h.1 hb
            refine hp_bipush E (10 : Int32) (by decide) dX2_next_183 (rfl : 183 + 2 = 185) ?_
            refine hp_aload_n E hl 0 rfl 0 rfl dX2_next_185 (rfl : 185 + 1 = 186) ?_
            refine hp_getI E hR in_X2 (hp_mono.c hm hc0) rfl 4 (Nat.le_of_ble_eq_true rfl) rfl q127 (fun _ h => h) dX2_next_186 (rfl : 186 + 3 = 189) ?_
            refine hp_imul E dX2_next_189 (rfl : 189 + 1 = 190) ?_
            refine hp_aload_n E hl 0 rfl 0 rfl dX2_next_190 (rfl : 190 + 1 = 191) ?_
            refine hp_fi (hp_rV E hR hl (m_X2_here G _ _ _ (hp_mono.c hm hc0) h) (hp_mono.c hm hc0) (ci := 1) rfl rfl q407 q409 qs2 q74 q410 nf_X2_here ⟨Nat.le_of_ble_eq_true rfl, Nat.le_of_ble_eq_true rfl⟩ (rest := [.int ((10 : Int32) * (st_I Su151 o 4)), hp_v B o]) rfl (Nat.le_of_ble_eq_true rfl) dX2_next_191 ⟨Nat.le_of_ble_eq_true rfl, Nat.le_of_ble_eq_true rfl⟩) hR (rfl : 191 + 3 = 194) (fun z15103 Sx H locs hq hR => ?_)
            obtain ⟨hSx, h⟩ := hq
            rw [hSx] at hR
            refine hp_iadd E dX2_next_194 (rfl : 194 + 1 = 195) ?_
            refine hp_bipush E (48 : Int32) (by decide) dX2_next_195 (rfl : 195 + 2 = 197) ?_
            refine hp_isub E dX2_next_197 (rfl : 197 + 1 = 198) ?_
            exact b198 _ _ _ _ _ _ h hl hR hm ms151
          · have h := h.2 hb
            refine hp_aload_n E hl 0 rfl 0 rfl dX2_next_176 (rfl : 176 + 1 = 177) ?_
            refine hp_getI E hR in_X2 (hp_mono.c hm hc0) rfl 4 (Nat.le_of_ble_eq_true rfl) rfl q127 (fun _ h => h) dX2_next_177 (rfl : 177 + 3 = 180) ?_
            refine hp_goto E (tgt := 198) dX2_next_180 (by decide) ?_
            exact b198 _ _ _ _ _ _ h hl hR hm ms151
    exact key151 (μ151 Sa151 + 1) _ H locs ls (Nat.lt_succ_self _) hI hl hR hp_mono.rf
  have b121 : ∀ (t0 : Nat) (t1 : Int32) (S : hp_St) (H : Heap) (locs : List Loc) (ls : Array Slot), wb_X2_next_121 o t0 t1 S Q → lv_has ls 1 [] → hp_S B D s0 S H locs → hp_mono Si S → W p l e ({ frames := 7, cells := 0, slots := 0, locals := 448 } : Room) s m args below meth c H locs 0 0 (MQ below (hp_Qv B D s0 (fun S' => hp_mono Si S' ∧ Q S')) args s 0 0 (fun q => B < q)) (F0 m 121 ls [.int t1, hp_v B t0]) := by
    intro t0 t1 S H locs ls h hl hR hm
    unfold wb_X2_next_121 at h
    obtain ⟨hc12101, h⟩ := h
    refine hx_putI E hR in_X2 tyX2 tyX2_ok nmX2 hc12101 rfl 3 (Nat.le_of_ble_eq_true rfl) rfl q126 (fun _ h => h) (Or.inl rfl) (Or.inl rfl) dX2_next_121 (rfl : 121 + 3 = 124) (fun S12102 H locs e12104 hm12103 hR => ?_)
    have h := h S12102 e12104
    have hm := hp_mono.tr hm hm12103
    refine hp_goto E (tgt := 242) dX2_next_124 (by decide) ?_
    exact b242 _ _ _ _ h hl hR hm
  have b72 : ∀ (S : hp_St) (H : Heap) (locs : List Loc) (ls : Array Slot), wl_X2_next_72 o S Q → lv_has ls 1 [(0, hp_v B o)] → hp_S B D s0 S H locs → hp_mono Si S → W p l e ({ frames := 7, cells := 0, slots := 0, locals := 448 } : Room) s m args below meth c H locs 0 0 (MQ below (hp_Qv B D s0 (fun S' => hp_mono Si S' ∧ Q S')) args s 0 0 (fun q => B < q)) (F0 m 72 ls []) := by
    intro S H locs ls h hl hR hm
    obtain ⟨I72, μ72, hI, hst⟩ := h
    obtain ⟨Sa72, eSa72⟩ : ∃ x, x = S := ⟨_, rfl⟩
    subst eSa72
    have key72 : ∀ (N : Nat) (Su72 : hp_St) (H : Heap) (locs : List Loc) (ls : Array Slot), μ72 Su72 < N → I72 Su72 → lv_has ls 1 [(0, hp_v B o)] → hp_S B D s0 Su72 H locs → hp_mono Sa72 Su72 → W p l e ({ frames := 7, cells := 0, slots := 0, locals := 448 } : Room) s m args below meth c H locs 0 0 (MQ below (hp_Qv B D s0 (fun S' => hp_mono Si S' ∧ Q S')) args s 0 0 (fun q => B < q)) (F0 m 72 ls []) := by
      intro N
      induction N with
      | zero =>
        intro Su72 H locs ls hN
        exact absurd hN (Nat.not_lt_zero _)
      | succ N ih72 =>
        intro Su72 H locs ls hN hI hl hR ms72
        have h := hst Su72 ms72 hI
        have hm := hp_mono.tr hm ms72
        obtain ⟨K72, hKe72⟩ : ∃ K : hp_St → Prop, K = (fun Sk => I72 Sk ∧ μ72 Sk < μ72 Su72) := ⟨_, rfl⟩
        rw [← hKe72] at h
        have hK72 : ∀ (Sk : hp_St) (H : Heap) (locs : List Loc) (ls : Array Slot), K72 Sk → lv_has ls 1 [(0, hp_v B o)] → hp_S B D s0 Sk H locs → hp_mono Sa72 Sk → W p l e ({ frames := 7, cells := 0, slots := 0, locals := 448 } : Room) s m args below meth c H locs 0 0 (MQ below (hp_Qv B D s0 (fun S' => hp_mono Si S' ∧ Q S')) args s 0 0 (fun q => B < q)) (F0 m 72 ls []) := by
          intro Sk H locs ls hI hl hR ms
          rw [hKe72] at hI
          exact ih72 Sk H locs ls (Nat.lt_of_lt_of_le hI.2 (Nat.le_of_lt_succ hN)) hI.1 hl hR ms
        unfold wb_X2_next_72 at h
        refine hp_aload_n E hl 0 rfl 0 rfl dX2_next_72 (rfl : 72 + 1 = 73) ?_
        refine hp_fi (hp_rV E hR hl (m_X2_here G _ _ _ (hp_mono.c hm hc0) h) (hp_mono.c hm hc0) (ci := 1) rfl rfl q407 q409 qs2 q74 q410 nf_X2_here ⟨Nat.le_of_ble_eq_true rfl, Nat.le_of_ble_eq_true rfl⟩ (rest := []) rfl (Nat.le_of_ble_eq_true rfl) dX2_next_73 ⟨Nat.le_of_ble_eq_true rfl, Nat.le_of_ble_eq_true rfl⟩) hR (rfl : 73 + 3 = 76) (fun z7201 Sx H locs hq hR => ?_)
        obtain ⟨hSx, h⟩ := hq
        rw [hSx] at hR
        refine hp_bipush E (97 : Int32) (by decide) dX2_next_76 (rfl : 76 + 2 = 78) ?_
        refine hp_bipush E (122 : Int32) (by decide) dX2_next_78 (rfl : 78 + 2 = 80) ?_
        refine hp_fi (hp_rSN E hR hl (m_X1_in G _ _ _ _ _ h) q411 q395 q73 q396 nf_X1_in ⟨Nat.le_of_ble_eq_true rfl, Nat.le_of_ble_eq_true rfl⟩ (rest := []) rfl (Nat.le_of_ble_eq_true rfl) dX2_next_80 ⟨Nat.le_of_ble_eq_true rfl, Nat.le_of_ble_eq_true rfl⟩) hR (rfl : 80 + 3 = 83) (fun z7202 Sx H locs hq hR => ?_)
        obtain ⟨hSx, h⟩ := hq
        rw [hSx] at hR
        refine hp_if_eq E dX2_next_83 (rfl : 83 + 3 = 86) (tgt := 99) (by decide) (fun hb => ?_) (fun hb => ?_)
        · have h := h.1 hb
          refine hp_aload_n E hl 0 rfl 0 rfl dX2_next_99 (rfl : 99 + 1 = 100) ?_
          refine hp_aload_n E hl 0 rfl 0 rfl dX2_next_100 (rfl : 100 + 1 = 101) ?_
          refine hp_fi (hp_rV E hR hl (m_X2_word G _ _ _ (hp_mono.c hm hc0) h) (hp_mono.c hm hc0) (ci := 1) rfl rfl q412 q414 qs3 q74 q415 nf_X2_word ⟨Nat.le_of_ble_eq_true rfl, Nat.le_of_ble_eq_true rfl⟩ (rest := [hp_v B o]) rfl (Nat.le_of_ble_eq_true rfl) dX2_next_101 ⟨Nat.le_of_ble_eq_true rfl, Nat.le_of_ble_eq_true rfl⟩) hR (rfl : 101 + 3 = 104) (fun z7203 Sx H locs hq hR => ?_)
          obtain ⟨hSx, h⟩ := hq
          rw [hSx] at hR
          refine hx_putI E hR in_X2 tyX2 tyX2_ok nmX2 (hp_mono.c hm hc0) rfl 4 (Nat.le_of_ble_eq_true rfl) rfl q127 (fun _ h => h) (Or.inl rfl) (Or.inl rfl) dX2_next_104 (rfl : 104 + 3 = 107) (fun S7204 H locs e7206 hm7205 hR => ?_)
          have h := h S7204 e7206
          have hm := hp_mono.tr hm hm7205
          have ms72 := hp_mono.tr ms72 hm7205
          refine hp_aload_n E hl 0 rfl 0 rfl dX2_next_107 (rfl : 107 + 1 = 108) ?_
          refine hp_aload_n E hl 0 rfl 0 rfl dX2_next_108 (rfl : 108 + 1 = 109) ?_
          refine hp_getI E hR in_X2 (hp_mono.c hm hc0) rfl 4 (Nat.le_of_ble_eq_true rfl) rfl q127 (fun _ h => h) dX2_next_109 (rfl : 109 + 3 = 112) ?_
          refine hp_iconst E (-1 : Int32) (by decide) dX2_next_112 (rfl : 112 + 1 = 113) ?_
          refine hp_icmp_ne E dX2_next_113 (rfl : 113 + 3 = 116) (tgt := 120) (by decide) (fun hb => ?_) (fun hb => ?_)
          · have h := h.1 hb
            refine hp_iconst E (4 : Int32) (by decide) dX2_next_116 (rfl : 116 + 1 = 117) ?_
            refine hp_goto E (tgt := 121) dX2_next_117 (by decide) ?_
            exact b121 _ _ _ _ _ _ h (lv_sub hl [] rfl) hR hm
          · have h := h.2 hb
            refine hp_iconst E (0 : Int32) (by decide) dX2_next_120 (rfl : 120 + 1 = 121) ?_
            exact b121 _ _ _ _ _ _ h (lv_sub hl [] rfl) hR hm
        · have h := h.2 hb
          refine hp_aload_n E hl 0 rfl 0 rfl dX2_next_86 (rfl : 86 + 1 = 87) ?_
          refine hp_dup E hp_vc dX2_next_87 (rfl : 87 + 1 = 88) ?_
          refine hp_getI E hR in_X2 (hp_mono.c hm hc0) rfl 0 (Nat.le_of_ble_eq_true rfl) rfl q123 (fun _ h => h) dX2_next_88 (rfl : 88 + 3 = 91) ?_
          refine hp_iconst E (1 : Int32) (by decide) dX2_next_91 (rfl : 91 + 1 = 92) ?_
          refine hp_iadd E dX2_next_92 (rfl : 92 + 1 = 93) ?_
          refine hx_putI E hR in_X2 tyX2 tyX2_ok nmX2 (hp_mono.c hm hc0) rfl 0 (Nat.le_of_ble_eq_true rfl) rfl q123 (fun _ h => h) (Or.inl rfl) (Or.inl rfl) dX2_next_93 (rfl : 93 + 3 = 96) (fun S7207 H locs e7209 hm7208 hR => ?_)
          have h := h S7207 e7209
          have hm := hp_mono.tr hm hm7208
          have ms72 := hp_mono.tr ms72 hm7208
          refine hp_goto E (tgt := 72) dX2_next_96 (by decide) ?_
          exact hK72 _ _ _ _ h hl hR ms72
    exact key72 (μ72 Sa72 + 1) _ H locs ls (Nat.lt_succ_self _) hI hl hR hp_mono.rf
  have b0 : ∀ (S : hp_St) (H : Heap) (locs : List Loc) (ls : Array Slot), wl_X2_next_0 o S Q → lv_has ls 1 [(0, hp_v B o)] → hp_S B D s0 S H locs → hp_mono Si S → W p l e ({ frames := 7, cells := 0, slots := 0, locals := 448 } : Room) s m args below meth c H locs 0 0 (MQ below (hp_Qv B D s0 (fun S' => hp_mono Si S' ∧ Q S')) args s 0 0 (fun q => B < q)) (F0 m 0 ls []) := by
    intro S H locs ls h hl hR hm
    obtain ⟨I0, μ0, hI, hst⟩ := h
    obtain ⟨Sa0, eSa0⟩ : ∃ x, x = S := ⟨_, rfl⟩
    subst eSa0
    have key0 : ∀ (N : Nat) (Su0 : hp_St) (H : Heap) (locs : List Loc) (ls : Array Slot), μ0 Su0 < N → I0 Su0 → lv_has ls 1 [(0, hp_v B o)] → hp_S B D s0 Su0 H locs → hp_mono Sa0 Su0 → W p l e ({ frames := 7, cells := 0, slots := 0, locals := 448 } : Room) s m args below meth c H locs 0 0 (MQ below (hp_Qv B D s0 (fun S' => hp_mono Si S' ∧ Q S')) args s 0 0 (fun q => B < q)) (F0 m 0 ls []) := by
      intro N
      induction N with
      | zero =>
        intro Su0 H locs ls hN
        exact absurd hN (Nat.not_lt_zero _)
      | succ N ih0 =>
        intro Su0 H locs ls hN hI hl hR ms0
        have h := hst Su0 ms0 hI
        have hm := hp_mono.tr hm ms0
        obtain ⟨K0, hKe0⟩ : ∃ K : hp_St → Prop, K = (fun Sk => I0 Sk ∧ μ0 Sk < μ0 Su0) := ⟨_, rfl⟩
        rw [← hKe0] at h
        have hK0 : ∀ (Sk : hp_St) (H : Heap) (locs : List Loc) (ls : Array Slot), K0 Sk → lv_has ls 1 [(0, hp_v B o)] → hp_S B D s0 Sk H locs → hp_mono Sa0 Sk → W p l e ({ frames := 7, cells := 0, slots := 0, locals := 448 } : Room) s m args below meth c H locs 0 0 (MQ below (hp_Qv B D s0 (fun S' => hp_mono Si S' ∧ Q S')) args s 0 0 (fun q => B < q)) (F0 m 0 ls []) := by
          intro Sk H locs ls hI hl hR ms
          rw [hKe0] at hI
          exact ih0 Sk H locs ls (Nat.lt_of_lt_of_le hI.2 (Nat.le_of_lt_succ hN)) hI.1 hl hR ms
        have b18 : ∀ (S : hp_St) (H : Heap) (locs : List Loc) (ls : Array Slot), wb_X2_next_18 o S K0 Q → lv_has ls 1 [(0, hp_v B o)] → hp_S B D s0 S H locs → hp_mono Si S → hp_mono Sa0 S → W p l e ({ frames := 7, cells := 0, slots := 0, locals := 448 } : Room) s m args below meth c H locs 0 0 (MQ below (hp_Qv B D s0 (fun S' => hp_mono Si S' ∧ Q S')) args s 0 0 (fun q => B < q)) (F0 m 18 ls []) := by
          intro S H locs ls h hl hR hm ms0
          unfold wb_X2_next_18 at h
          refine hp_aload_n E hl 0 rfl 0 rfl dX2_next_18 (rfl : 18 + 1 = 19) ?_
          refine hp_dup E hp_vc dX2_next_19 (rfl : 19 + 1 = 20) ?_
          refine hp_getI E hR in_X2 (hp_mono.c hm hc0) rfl 0 (Nat.le_of_ble_eq_true rfl) rfl q123 (fun _ h => h) dX2_next_20 (rfl : 20 + 3 = 23) ?_
          refine hp_iconst E (1 : Int32) (by decide) dX2_next_23 (rfl : 23 + 1 = 24) ?_
          refine hp_iadd E dX2_next_24 (rfl : 24 + 1 = 25) ?_
          refine hx_putI E hR in_X2 tyX2 tyX2_ok nmX2 (hp_mono.c hm hc0) rfl 0 (Nat.le_of_ble_eq_true rfl) rfl q123 (fun _ h => h) (Or.inl rfl) (Or.inl rfl) dX2_next_25 (rfl : 25 + 3 = 28) (fun S1801 H locs e1803 hm1802 hR => ?_)
          have h := h S1801 e1803
          have hm := hp_mono.tr hm hm1802
          have ms0 := hp_mono.tr ms0 hm1802
          refine hp_goto E (tgt := 0) dX2_next_28 (by decide) ?_
          exact hK0 _ _ _ _ h hl hR ms0
        unfold wb_X2_next_0 at h
        refine hp_aload_n E hl 0 rfl 0 rfl dX2_next_0 (rfl : 0 + 1 = 1) ?_
        refine hp_fi (hp_rV E hR hl (m_X2_here G _ _ _ (hp_mono.c hm hc0) h) (hp_mono.c hm hc0) (ci := 1) rfl rfl q407 q409 qs2 q74 q410 nf_X2_here ⟨Nat.le_of_ble_eq_true rfl, Nat.le_of_ble_eq_true rfl⟩ (rest := []) rfl (Nat.le_of_ble_eq_true rfl) dX2_next_1 ⟨Nat.le_of_ble_eq_true rfl, Nat.le_of_ble_eq_true rfl⟩) hR (rfl : 1 + 3 = 4) (fun z1 Sx H locs hq hR => ?_)
        obtain ⟨hSx, h⟩ := hq
        rw [hSx] at hR
        refine hp_bipush E (10 : Int32) (by decide) dX2_next_4 (rfl : 4 + 2 = 6) ?_
        refine hp_icmp_eq E dX2_next_6 (rfl : 6 + 3 = 9) (tgt := 18) (by decide) (fun hb => ?_) (fun hb => ?_)
        · have h := h.1 hb
          exact b18 _ _ _ _ h hl hR hm ms0
        · have h := h.2 hb
          refine hp_aload_n E hl 0 rfl 0 rfl dX2_next_9 (rfl : 9 + 1 = 10) ?_
          refine hp_fi (hp_rV E hR hl (m_X2_here G _ _ _ (hp_mono.c hm hc0) h) (hp_mono.c hm hc0) (ci := 1) rfl rfl q407 q409 qs2 q74 q410 nf_X2_here ⟨Nat.le_of_ble_eq_true rfl, Nat.le_of_ble_eq_true rfl⟩ (rest := []) rfl (Nat.le_of_ble_eq_true rfl) dX2_next_10 ⟨Nat.le_of_ble_eq_true rfl, Nat.le_of_ble_eq_true rfl⟩) hR (rfl : 10 + 3 = 13) (fun z2 Sx H locs hq hR => ?_)
          obtain ⟨hSx, h⟩ := hq
          rw [hSx] at hR
          refine hp_bipush E (32 : Int32) (by decide) dX2_next_13 (rfl : 13 + 2 = 15) ?_
          refine hp_icmp_ne E dX2_next_15 (rfl : 15 + 3 = 18) (tgt := 31) (by decide) (fun hb => ?_) (fun hb => ?_)
          · have h := h.1 hb
            exact b18 _ _ _ _ h hl hR hm ms0
          · have h := h.2 hb
            refine hp_aload_n E hl 0 rfl 0 rfl dX2_next_31 (rfl : 31 + 1 = 32) ?_
            refine hp_aload_n E hl 0 rfl 0 rfl dX2_next_32 (rfl : 32 + 1 = 33) ?_
            refine hp_getI E hR in_X2 (hp_mono.c hm hc0) rfl 0 (Nat.le_of_ble_eq_true rfl) rfl q123 (fun _ h => h) dX2_next_33 (rfl : 33 + 3 = 36) ?_
            refine hx_putI E hR in_X2 tyX2 tyX2_ok nmX2 (hp_mono.c hm hc0) rfl 2 (Nat.le_of_ble_eq_true rfl) rfl q125 (fun _ h => h) (Or.inl rfl) (Or.inl rfl) dX2_next_36 (rfl : 36 + 3 = 39) (fun S3 H locs e5 hm4 hR => ?_)
            have h := h S3 e5
            have hm := hp_mono.tr hm hm4
            have ms0 := hp_mono.tr ms0 hm4
            refine hp_aload_n E hl 0 rfl 0 rfl dX2_next_39 (rfl : 39 + 1 = 40) ?_
            refine hp_getI E hR in_X2 (hp_mono.c hm hc0) rfl 0 (Nat.le_of_ble_eq_true rfl) rfl q123 (fun _ h => h) dX2_next_40 (rfl : 40 + 3 = 43) ?_
            refine hp_aload_n E hl 0 rfl 0 rfl dX2_next_43 (rfl : 43 + 1 = 44) ?_
            refine hp_getI E hR in_X2 (hp_mono.c hm hc0) rfl 1 (Nat.le_of_ble_eq_true rfl) rfl q124 (fun _ h => h) dX2_next_44 (rfl : 44 + 3 = 47) ?_
            refine hp_icmp_ne E dX2_next_47 (rfl : 47 + 3 = 50) (tgt := 58) (by decide) (fun hb => ?_) (fun hb => ?_)
            · have h := h.1 hb
              refine hp_aload_n E hl 0 rfl 0 rfl dX2_next_50 (rfl : 50 + 1 = 51) ?_
              refine hp_iconst E (3 : Int32) (by decide) dX2_next_51 (rfl : 51 + 1 = 52) ?_
              refine hx_putI E hR in_X2 tyX2 tyX2_ok nmX2 (hp_mono.c hm hc0) rfl 3 (Nat.le_of_ble_eq_true rfl) rfl q126 (fun _ h => h) (Or.inl rfl) (Or.inl rfl) dX2_next_52 (rfl : 52 + 3 = 55) (fun S6 H locs e8 hm7 hR => ?_)
              have h := h S6 e8
              have hm := hp_mono.tr hm hm7
              have ms0 := hp_mono.tr ms0 hm7
              refine hp_goto E (tgt := 242) dX2_next_55 (by decide) ?_
              exact b242 _ _ _ _ h (lv_sub hl [] rfl) hR hm
            · have h := h.2 hb
              refine hp_aload_n E hl 0 rfl 0 rfl dX2_next_58 (rfl : 58 + 1 = 59) ?_
              refine hp_fi (hp_rV E hR hl (m_X2_here G _ _ _ (hp_mono.c hm hc0) h) (hp_mono.c hm hc0) (ci := 1) rfl rfl q407 q409 qs2 q74 q410 nf_X2_here ⟨Nat.le_of_ble_eq_true rfl, Nat.le_of_ble_eq_true rfl⟩ (rest := []) rfl (Nat.le_of_ble_eq_true rfl) dX2_next_59 ⟨Nat.le_of_ble_eq_true rfl, Nat.le_of_ble_eq_true rfl⟩) hR (rfl : 59 + 3 = 62) (fun z9 Sx H locs hq hR => ?_)
              obtain ⟨hSx, h⟩ := hq
              rw [hSx] at hR
              refine hp_bipush E (97 : Int32) (by decide) dX2_next_62 (rfl : 62 + 2 = 64) ?_
              refine hp_bipush E (122 : Int32) (by decide) dX2_next_64 (rfl : 64 + 2 = 66) ?_
              refine hp_fi (hp_rSN E hR hl (m_X1_in G _ _ _ _ _ h) q411 q395 q73 q396 nf_X1_in ⟨Nat.le_of_ble_eq_true rfl, Nat.le_of_ble_eq_true rfl⟩ (rest := []) rfl (Nat.le_of_ble_eq_true rfl) dX2_next_66 ⟨Nat.le_of_ble_eq_true rfl, Nat.le_of_ble_eq_true rfl⟩) hR (rfl : 66 + 3 = 69) (fun z10 Sx H locs hq hR => ?_)
              obtain ⟨hSx, h⟩ := hq
              rw [hSx] at hR
              refine hp_if_eq E dX2_next_69 (rfl : 69 + 3 = 72) (tgt := 127) (by decide) (fun hb => ?_) (fun hb => ?_)
              · have h := h.1 hb
                refine hp_aload_n E hl 0 rfl 0 rfl dX2_next_127 (rfl : 127 + 1 = 128) ?_
                refine hp_fi (hp_rV E hR hl (m_X2_here G _ _ _ (hp_mono.c hm hc0) h) (hp_mono.c hm hc0) (ci := 1) rfl rfl q407 q409 qs2 q74 q410 nf_X2_here ⟨Nat.le_of_ble_eq_true rfl, Nat.le_of_ble_eq_true rfl⟩ (rest := []) rfl (Nat.le_of_ble_eq_true rfl) dX2_next_128 ⟨Nat.le_of_ble_eq_true rfl, Nat.le_of_ble_eq_true rfl⟩) hR (rfl : 128 + 3 = 131) (fun z11 Sx H locs hq hR => ?_)
                obtain ⟨hSx, h⟩ := hq
                rw [hSx] at hR
                refine hp_bipush E (48 : Int32) (by decide) dX2_next_131 (rfl : 131 + 2 = 133) ?_
                refine hp_bipush E (57 : Int32) (by decide) dX2_next_133 (rfl : 133 + 2 = 135) ?_
                refine hp_fi (hp_rSN E hR hl (m_X1_in G _ _ _ _ _ h) q411 q395 q73 q396 nf_X1_in ⟨Nat.le_of_ble_eq_true rfl, Nat.le_of_ble_eq_true rfl⟩ (rest := []) rfl (Nat.le_of_ble_eq_true rfl) dX2_next_135 ⟨Nat.le_of_ble_eq_true rfl, Nat.le_of_ble_eq_true rfl⟩) hR (rfl : 135 + 3 = 138) (fun z12 Sx H locs hq hR => ?_)
                obtain ⟨hSx, h⟩ := hq
                rw [hSx] at hR
                refine hp_if_eq E dX2_next_138 (rfl : 138 + 3 = 141) (tgt := 214) (by decide) (fun hb => ?_) (fun hb => ?_)
                · have h := h.1 hb
                  refine hp_aload_n E hl 0 rfl 0 rfl dX2_next_214 (rfl : 214 + 1 = 215) ?_
                  refine hp_aload_n E hl 0 rfl 0 rfl dX2_next_215 (rfl : 215 + 1 = 216) ?_
                  refine hp_fi (hp_rV E hR hl (m_X2_here G _ _ _ (hp_mono.c hm hc0) h) (hp_mono.c hm hc0) (ci := 1) rfl rfl q407 q409 qs2 q74 q410 nf_X2_here ⟨Nat.le_of_ble_eq_true rfl, Nat.le_of_ble_eq_true rfl⟩ (rest := [hp_v B o]) rfl (Nat.le_of_ble_eq_true rfl) dX2_next_216 ⟨Nat.le_of_ble_eq_true rfl, Nat.le_of_ble_eq_true rfl⟩) hR (rfl : 216 + 3 = 219) (fun z13 Sx H locs hq hR => ?_)
                  obtain ⟨hSx, h⟩ := hq
                  rw [hSx] at hR
                  refine hp_bipush E (59 : Int32) (by decide) dX2_next_219 (rfl : 219 + 2 = 221) ?_
                  refine hp_icmp_ne E dX2_next_221 (rfl : 221 + 3 = 224) (tgt := 228) (by decide) (fun hb => ?_) (fun hb => ?_)
                  · have h := h.1 hb
                    refine hp_iconst E (2 : Int32) (by decide) dX2_next_224 (rfl : 224 + 1 = 225) ?_
                    refine hp_goto E (tgt := 229) dX2_next_225 (by decide) ?_
                    exact b229 _ _ _ _ _ _ h hl hR hm
                  · have h := h.2 hb
                    refine hp_iconst E (4 : Int32) (by decide) dX2_next_228 (rfl : 228 + 1 = 229) ?_
                    exact b229 _ _ _ _ _ _ h hl hR hm
                · have h := h.2 hb
                  refine hp_aload_n E hl 0 rfl 0 rfl dX2_next_141 (rfl : 141 + 1 = 142) ?_
                  refine hp_iconst E (1 : Int32) (by decide) dX2_next_142 (rfl : 142 + 1 = 143) ?_
                  refine hx_putI E hR in_X2 tyX2 tyX2_ok nmX2 (hp_mono.c hm hc0) rfl 3 (Nat.le_of_ble_eq_true rfl) rfl q126 (fun _ h => h) (Or.inl rfl) (Or.inl rfl) dX2_next_143 (rfl : 143 + 3 = 146) (fun S14 H locs e16 hm15 hR => ?_)
                  have h := h S14 e16
                  have hm := hp_mono.tr hm hm15
                  have ms0 := hp_mono.tr ms0 hm15
                  refine hp_aload_n E hl 0 rfl 0 rfl dX2_next_146 (rfl : 146 + 1 = 147) ?_
                  refine hp_iconst E (0 : Int32) (by decide) dX2_next_147 (rfl : 147 + 1 = 148) ?_
                  refine hx_putI E hR in_X2 tyX2 tyX2_ok nmX2 (hp_mono.c hm hc0) rfl 4 (Nat.le_of_ble_eq_true rfl) rfl q127 (fun _ h => h) (Or.inl rfl) (Or.inl rfl) dX2_next_148 (rfl : 148 + 3 = 151) (fun S17 H locs e19 hm18 hR => ?_)
                  have h := h S17 e19
                  have hm := hp_mono.tr hm hm18
                  have ms0 := hp_mono.tr ms0 hm18
                  exact b151 _ _ _ _ h hl hR hm
              · have h := h.2 hb
                exact b72 _ _ _ _ h hl hR hm
    exact key0 (μ0 Sa0 + 1) _ H locs ls (Nat.lt_succ_self _) hI hl hR hp_mono.rf
  unfold wp_X2_next at h
  exact b0 _ _ _ _ h hl hR hm
def wp_X2_wrong (o : Nat) (a1 : Int32) (S : hp_St) (Q : Nat → hp_St → Prop) : Prop := (∀ n4 S1, n4 = st_Z S → S1 = st_nA S 8 0 → hp_fr S n4 → wp_X8_init n4 a1 (st_I S1 o 2) S1 (fun S8 => hp_mono S1 S8 → Q n4 S8))
theorem nf_X2_wrong : hp_nf yX2_wrong 1 = true := by decide +kernel
set_option maxHeartbeats 4000000 in
theorem m_X2_wrong {l : Launch} {B : Nat} {D : va_G} {s0 : State} {b0 : Nat} (G : hp_G l B D s0 b0) (o : Nat) (a1 : Int32) (Si : hp_St) (Q : Nat → hp_St → Prop) (hc0 : st_C Si o = 2) (h : wp_X2_wrong o a1 Si Q) : hp_M l B D s0 yX2_wrong cX2_wrong 2 (some (.object "LifeRents$Fault")) 6 384 1 8 [hp_v B o, .int a1] Si (hp_Qa B D s0 (fun r S' => hp_mono Si S' ∧ Q r S')) := by
  refine hp_start G (by decide +kernel) rfl rfl (lv := [(0, hp_v B o), (1, .int a1)]) (by simp [lg_sl, hp_vc, hp_ci, hp_cj]) (by simp [lv_args, hp_vc, hp_ci, hp_cj]) ?_
  intro p e s m args below meth c E ls hl hR
  have hm : hp_mono Si Si := hp_mono.rf
  unfold wp_X2_wrong at h
  refine hx_new E hR in_N8 tyN8 tyN8_ok (ci := 7) rfl hd_X8 q474 q475 q89 (Nat.le_of_ble_eq_true rfl) (Nat.le_of_ble_eq_true rfl) dX2_wrong_0 (rfl : 0 + 3 = 3) (fun n4 S1 H e5 e3 hf6 hm2 hc7 hR => ?_)
  have h := h n4 S1 e5 e3 hf6
  have hm := hp_mono.tr hm hm2
  refine hp_dup E hp_vc dX2_wrong_3 (rfl : 3 + 1 = 4) ?_
  refine hp_iload_n E hl 1 rfl 1 rfl dX2_wrong_4 (rfl : 4 + 1 = 5) ?_
  refine hp_aload_n E hl 0 rfl 0 rfl dX2_wrong_5 (rfl : 5 + 1 = 6) ?_
  refine hp_getI E hR in_X2 (hp_mono.c hm hc0) rfl 2 (Nat.le_of_ble_eq_true rfl) rfl q125 (fun _ h => h) dX2_wrong_6 (rfl : 6 + 3 = 9) ?_
  refine hp_fv (hp_rI E hR hl (hp_ne hR hc7) (m_X8_init G _ _ _ _ _ hc7 h) rfl q514 q515 q89 q516 nf_X8_init ⟨Nat.le_of_ble_eq_true rfl, Nat.le_of_ble_eq_true rfl⟩ (rest := [hp_v B n4]) rfl (Nat.le_of_ble_eq_true rfl) dX2_wrong_9 ⟨Nat.le_of_ble_eq_true rfl, Nat.le_of_ble_eq_true rfl⟩) hR (rfl : 9 + 3 = 12) (fun S8 H locs hq hR => ?_)
  obtain ⟨hm9, h⟩ := hq
  have h := h hm9
  have hm := hp_mono.tr hm hm9
  exact hp_aret E hR (Or.inl ⟨_, rfl⟩) ⟨hm, h⟩ (Nat.le_of_ble_eq_true rfl) (Nat.le_of_ble_eq_true rfl) dX2_wrong_12
def wp_X2_number (o : Nat) (a1 : Int32) (a2 : Int32) (S : hp_St) (Q : Int32 → hp_St → Prop) (X : Nat → hp_St → Prop) : Prop := ((((st_I S o 3) = (1 : Int32)) → wp_X1_in (st_I S o 4) a1 a2 S (fun z1 => (((z1 = 0) → wp_X2_wrong o (2 : Int32) S (fun z2 S3 => hp_mono S S3 → (st_C S3 z2 = 8) ∧ X z2 S3)) ∧ ((¬ (z1 = 0)) → wp_X2_next o S (fun S6 => hp_mono S S6 → Q (st_I S o 4) S6))))) ∧ ((¬ ((st_I S o 3) = (1 : Int32))) → wp_X2_wrong o (1 : Int32) S (fun z8 S9 => hp_mono S S9 → (st_C S9 z8 = 8) ∧ X z8 S9)))
theorem nf_X2_number : hp_nf yX2_number 2 = true := by decide +kernel
set_option maxHeartbeats 4000000 in
theorem m_X2_number {l : Launch} {B : Nat} {D : va_G} {s0 : State} {b0 : Nat} (G : hp_G l B D s0 b0) (o : Nat) (a1 : Int32) (a2 : Int32) (Si : hp_St) (Q : Int32 → hp_St → Prop) (X : Nat → hp_St → Prop) (hc0 : st_C Si o = 2) (h : wp_X2_number o a1 a2 Si Q X) : hp_MX l B D s0 yX2_number cX2_number 4 (some .int) 8 512 1 8 [hp_v B o, .int a1, .int a2] Si (hp_Qi B D s0 (fun r S' => hp_mono Si S' ∧ Q r S')) (fun n S' => hp_mono Si S' ∧ X n S') := by
  refine hp_startX G (by decide +kernel) rfl rfl (lv := [(0, hp_v B o), (1, .int a1), (2, .int a2)]) (by simp [lg_sl, hp_vc, hp_ci, hp_cj]) (by simp [lv_args, hp_vc, hp_ci, hp_cj]) ?_
  intro p e s m args below meth c E hex ls hl hR
  have hm : hp_mono Si Si := hp_mono.rf
  unfold wp_X2_number at h
  refine hp_aload_n E hl 0 rfl 0 rfl dX2_number_0 (rfl : 0 + 1 = 1) ?_
  refine hp_getI E hR in_X2 hc0 rfl 3 (Nat.le_of_ble_eq_true rfl) rfl q126 (fun _ h => h) dX2_number_1 (rfl : 1 + 3 = 4) ?_
  refine hp_iconst E (1 : Int32) (by decide) dX2_number_4 (rfl : 4 + 1 = 5) ?_
  refine hp_icmp_eq E dX2_number_5 (rfl : 5 + 3 = 8) (tgt := 14) (by decide) (fun hb => ?_) (fun hb => ?_)
  · have h := h.1 hb
    refine hp_aload_n E hl 0 rfl 0 rfl dX2_number_14 (rfl : 14 + 1 = 15) ?_
    refine hp_getI E hR in_X2 hc0 rfl 4 (Nat.le_of_ble_eq_true rfl) rfl q127 (fun _ h => h) dX2_number_15 (rfl : 15 + 3 = 18) ?_
    refine hp_iload_n E hl 1 rfl 1 rfl dX2_number_18 (rfl : 18 + 1 = 19) ?_
    refine hp_iload_n E hl 2 rfl 2 rfl dX2_number_19 (rfl : 19 + 1 = 20) ?_
    refine hp_fi (hp_rSN E hR hl (m_X1_in G _ _ _ _ _ h) q411 q395 q73 q396 nf_X1_in ⟨Nat.le_of_ble_eq_true rfl, Nat.le_of_ble_eq_true rfl⟩ (rest := []) rfl (Nat.le_of_ble_eq_true rfl) dX2_number_20 ⟨Nat.le_of_ble_eq_true rfl, Nat.le_of_ble_eq_true rfl⟩) hR (rfl : 20 + 3 = 23) (fun z1 Sx H locs hq hR => ?_)
    obtain ⟨hSx, h⟩ := hq
    rw [hSx] at hR
    refine hp_if_ne E dX2_number_23 (rfl : 23 + 3 = 26) (tgt := 32) (by decide) (fun hb => ?_) (fun hb => ?_)
    · have h := h.1 hb
      refine hp_aload_n E hl 0 rfl 0 rfl dX2_number_26 (rfl : 26 + 1 = 27) ?_
      refine hp_iconst E (2 : Int32) (by decide) dX2_number_27 (rfl : 27 + 1 = 28) ?_
      refine hp_fa (hp_rV E hR hl (m_X2_wrong G _ _ _ _ hc0 h) hc0 (ci := 1) rfl rfl q470 q472 qs5 q74 q473 nf_X2_wrong ⟨Nat.le_of_ble_eq_true rfl, Nat.le_of_ble_eq_true rfl⟩ (rest := []) rfl (Nat.le_of_ble_eq_true rfl) dX2_number_28 ⟨Nat.le_of_ble_eq_true rfl, Nat.le_of_ble_eq_true rfl⟩) hR (rfl : 28 + 3 = 31) (fun z2 S3 H locs hq hR => ?_)
      obtain ⟨hm4, h⟩ := hq
      have h := h hm4
      have hm := hp_mono.tr hm hm4
      obtain ⟨hc5, h⟩ := h
      exact hp_throw E hR hex hc5 ⟨hm, h⟩ (Nat.le_of_ble_eq_true rfl) (Nat.le_of_ble_eq_true rfl) dX2_number_31
    · have h := h.2 hb
      refine hp_aload_n E hl 0 rfl 0 rfl dX2_number_32 (rfl : 32 + 1 = 33) ?_
      refine hp_getI E hR in_X2 hc0 rfl 4 (Nat.le_of_ble_eq_true rfl) rfl q127 (fun _ h => h) dX2_number_33 (rfl : 33 + 3 = 36) ?_
      refine hp_istore_n E hl 3 rfl (lv' := [(0, hp_v B o), (1, .int a1), (2, .int a2)]) dX2_number_36 (rfl : 36 + 1 = 37) (by decide) rfl (fun ls hl => ?_)
      refine hp_aload_n E hl 0 rfl 1 rfl dX2_number_37 (rfl : 37 + 1 = 38) ?_
      refine hp_fv (hp_rV E hR hl (m_X2_next G _ _ _ hc0 h) hc0 (ci := 1) rfl rfl q403 q405 qs1 q74 q406 nf_X2_next ⟨Nat.le_of_ble_eq_true rfl, Nat.le_of_ble_eq_true rfl⟩ (rest := []) rfl (Nat.le_of_ble_eq_true rfl) dX2_number_38 ⟨Nat.le_of_ble_eq_true rfl, Nat.le_of_ble_eq_true rfl⟩) hR (rfl : 38 + 3 = 41) (fun S6 H locs hq hR => ?_)
      obtain ⟨hm7, h⟩ := hq
      have h := h hm7
      have hm := hp_mono.tr hm hm7
      refine hp_iload_n E hl 3 rfl 0 rfl dX2_number_41 (rfl : 41 + 1 = 42) ?_
      exact vx_ret (hp_iret E hR ⟨hm, h⟩ (Nat.le_of_ble_eq_true rfl) (Nat.le_of_ble_eq_true rfl) dX2_number_42)
  · have h := h.2 hb
    refine hp_aload_n E hl 0 rfl 0 rfl dX2_number_8 (rfl : 8 + 1 = 9) ?_
    refine hp_iconst E (1 : Int32) (by decide) dX2_number_9 (rfl : 9 + 1 = 10) ?_
    refine hp_fa (hp_rV E hR hl (m_X2_wrong G _ _ _ _ hc0 h) hc0 (ci := 1) rfl rfl q470 q472 qs5 q74 q473 nf_X2_wrong ⟨Nat.le_of_ble_eq_true rfl, Nat.le_of_ble_eq_true rfl⟩ (rest := []) rfl (Nat.le_of_ble_eq_true rfl) dX2_number_10 ⟨Nat.le_of_ble_eq_true rfl, Nat.le_of_ble_eq_true rfl⟩) hR (rfl : 10 + 3 = 13) (fun z8 S9 H locs hq hR => ?_)
    obtain ⟨hm10, h⟩ := hq
    have h := h hm10
    have hm := hp_mono.tr hm hm10
    obtain ⟨hc11, h⟩ := h
    exact hp_throw E hR hex hc11 ⟨hm, h⟩ (Nat.le_of_ble_eq_true rfl) (Nat.le_of_ble_eq_true rfl) dX2_number_13
def wb_X2_setting_80 (o : Nat) (a1 : Int32) (S : hp_St) (Q : hp_St → Prop) (X : Nat → hp_St → Prop) : Prop := Q S
def wp_X2_setting (o : Nat) (a1 : Int32) (S : hp_St) (Q : hp_St → Prop) (X : Nat → hp_St → Prop) : Prop := (((a1 = (4 : Int32)) → (fun kq => wp_X2_number o (0 : Int32) (40 : Int32) S kq (fun n S' => hp_mono S S' → X n S')) (fun z1 S2 => hp_mono S S2 → (st_C S2 (st_R S o 6) = 3) ∧ (∀ S5, S5 = st_pI S2 (st_R S o 6) 1 z1 → wb_X2_setting_80 o a1 S5 Q X))) ∧ ((¬ (a1 = (4 : Int32))) → (((a1 = (5 : Int32)) → (fun kq => wp_X2_number o (0 : Int32) (9 : Int32) S kq (fun n S' => hp_mono S S' → X n S')) (fun z8 S9 => hp_mono S S9 → (st_C S9 (st_R S o 6) = 3) ∧ (∀ S12, S12 = st_pI S9 (st_R S o 6) 2 z8 → wb_X2_setting_80 o a1 S12 Q X))) ∧ ((¬ (a1 = (5 : Int32))) → (((a1 = (6 : Int32)) → (fun kq => wp_X2_number o (2 : Int32) (99 : Int32) S kq (fun n S' => hp_mono S S' → X n S')) (fun z15 S16 => hp_mono S S16 → (st_C S16 (st_R S o 6) = 3) ∧ (∀ S19, S19 = st_pI S16 (st_R S o 6) 3 z15 → wb_X2_setting_80 o a1 S19 Q X))) ∧ ((¬ (a1 = (6 : Int32))) → (fun kq => wp_X2_number o (1 : Int32) (3 : Int32) S kq (fun n S' => hp_mono S S' → X n S')) (fun z22 S23 => hp_mono S S23 → (st_C S23 (st_R S o 6) = 3) ∧ (∀ S26, S26 = st_pI S23 (st_R S o 6) 4 z22 → wb_X2_setting_80 o a1 S26 Q X))))))))
theorem nf_X2_setting : hp_nf yX2_setting 1 = true := by decide +kernel
set_option maxHeartbeats 4000000 in
theorem m_X2_setting {l : Launch} {B : Nat} {D : va_G} {s0 : State} {b0 : Nat} (G : hp_G l B D s0 b0) (o : Nat) (a1 : Int32) (Si : hp_St) (Q : hp_St → Prop) (X : Nat → hp_St → Prop) (hc0 : st_C Si o = 2) (h : wp_X2_setting o a1 Si Q X) : hp_MX l B D s0 yX2_setting cX2_setting 2 none 9 576 1 8 [hp_v B o, .int a1] Si (hp_Qv B D s0 (fun S' => hp_mono Si S' ∧ Q S')) (fun n S' => hp_mono Si S' ∧ X n S') := by
  refine hp_startX G (by decide +kernel) rfl rfl (lv := [(0, hp_v B o), (1, .int a1)]) (by simp [lg_sl, hp_vc, hp_ci, hp_cj]) (by simp [lv_args, hp_vc, hp_ci, hp_cj]) ?_
  intro p e s m args below meth c E hex ls hl hR
  have hm : hp_mono Si Si := hp_mono.rf
  generalize hH : s.heap = H at hR ⊢
  generalize hLo : ([] : List Loc) = locs at hR ⊢
  have b80 : ∀ (S : hp_St) (H : Heap) (locs : List Loc) (ls : Array Slot), wb_X2_setting_80 o a1 S Q X → lv_has ls 2 [] → hp_S B D s0 S H locs → hp_mono Si S → W p l e ({ frames := 9, cells := 1, slots := 8, locals := 576 } : Room) s m args below meth c H locs 0 0 (vx_MQ below (hp_Qv B D s0 (fun S' => hp_mono Si S' ∧ Q S')) (hp_XC B D s0 (fun n S' => hp_mono Si S' ∧ X n S')) args s 1 8 (fun q => B < q)) (F0 m 80 ls []) := by
    intro S H locs ls h hl hR hm
    unfold wb_X2_setting_80 at h
    exact vx_ret (hp_vret E hR ⟨hm, h⟩ (Nat.le_of_ble_eq_true rfl) (Nat.le_of_ble_eq_true rfl) dX2_setting_80)
  unfold wp_X2_setting at h
  refine hp_iload_n E hl 1 rfl 1 rfl dX2_setting_0 (rfl : 0 + 1 = 1) ?_
  refine hp_iconst E (4 : Int32) (by decide) dX2_setting_1 (rfl : 1 + 1 = 2) ?_
  refine hp_icmp_ne E dX2_setting_2 (rfl : 2 + 3 = 5) (tgt := 22) (by decide) (fun hb => ?_) (fun hb => ?_)
  · have h := h.1 hb
    refine hp_aload_n E hl 0 rfl 0 rfl dX2_setting_5 (rfl : 5 + 1 = 6) ?_
    refine hp_getR E hR in_X2 hc0 rfl 6 (Nat.le_of_ble_eq_true rfl) rfl q129 (fun _ h => h) dX2_setting_6 (rfl : 6 + 3 = 9) ?_
    refine hp_aload_n E hl 0 rfl 0 rfl dX2_setting_9 (rfl : 9 + 1 = 10) ?_
    refine hp_iconst E (0 : Int32) (by decide) dX2_setting_10 (rfl : 10 + 1 = 11) ?_
    refine hp_bipush E (40 : Int32) (by decide) dX2_setting_11 (rfl : 11 + 2 = 13) ?_
    have h : wp_X2_number o (0 : Int32) (40 : Int32) Si _ _ := h
    refine hp_xi E (hp_rVX E hR hl (m_X2_number G _ _ _ _ _ _ hc0 h) hc0 (ci := 1) rfl rfl q552 q554 qs8 q74 q555 nf_X2_number ⟨Nat.le_of_ble_eq_true rfl, Nat.le_of_ble_eq_true rfl⟩ (rest := [hp_v B (st_R Si o 6)]) rfl (Nat.le_of_ble_eq_true rfl) dX2_setting_13 ⟨Nat.le_of_ble_eq_true rfl, Nat.le_of_ble_eq_true rfl⟩) hR hex (fun n S' hq => ⟨hp_mono.tr hm hq.1, hq.2 hq.1⟩) (Nat.le_of_ble_eq_true rfl) (Nat.le_of_ble_eq_true rfl) (rfl : 13 + 3 = 16) (fun z1 S2 H locs hq hR => ?_)
    obtain ⟨hm3, h⟩ := hq
    have h := h hm3
    have hm := hp_mono.tr hm hm3
    obtain ⟨hc4, h⟩ := h
    refine hx_putIN E hR in_X3 tyX3 tyX3_ok nmX3 hc4 rfl 1 (Nat.le_of_ble_eq_true rfl) rfl q187 (fun _ h => h) rfl (Or.inl rfl) dX2_setting_16 (rfl : 16 + 3 = 19) (fun S5 H locs e7 hm6 hR => ?_)
    have h := h S5 e7
    have hm := hp_mono.tr hm hm6
    refine hp_goto E (tgt := 80) dX2_setting_19 (by decide) ?_
    exact b80 _ _ _ _ h (lv_sub hl [] rfl) hR hm
  · have h := h.2 hb
    refine hp_iload_n E hl 1 rfl 1 rfl dX2_setting_22 (rfl : 22 + 1 = 23) ?_
    refine hp_iconst E (5 : Int32) (by decide) dX2_setting_23 (rfl : 23 + 1 = 24) ?_
    refine hp_icmp_ne E dX2_setting_24 (rfl : 24 + 3 = 27) (tgt := 44) (by decide) (fun hb => ?_) (fun hb => ?_)
    · have h := h.1 hb
      refine hp_aload_n E hl 0 rfl 0 rfl dX2_setting_27 (rfl : 27 + 1 = 28) ?_
      refine hp_getR E hR in_X2 hc0 rfl 6 (Nat.le_of_ble_eq_true rfl) rfl q129 (fun _ h => h) dX2_setting_28 (rfl : 28 + 3 = 31) ?_
      refine hp_aload_n E hl 0 rfl 0 rfl dX2_setting_31 (rfl : 31 + 1 = 32) ?_
      refine hp_iconst E (0 : Int32) (by decide) dX2_setting_32 (rfl : 32 + 1 = 33) ?_
      refine hp_bipush E (9 : Int32) (by decide) dX2_setting_33 (rfl : 33 + 2 = 35) ?_
      have h : wp_X2_number o (0 : Int32) (9 : Int32) Si _ _ := h
      refine hp_xi E (hp_rVX E hR hl (m_X2_number G _ _ _ _ _ _ hc0 h) hc0 (ci := 1) rfl rfl q552 q554 qs8 q74 q555 nf_X2_number ⟨Nat.le_of_ble_eq_true rfl, Nat.le_of_ble_eq_true rfl⟩ (rest := [hp_v B (st_R Si o 6)]) rfl (Nat.le_of_ble_eq_true rfl) dX2_setting_35 ⟨Nat.le_of_ble_eq_true rfl, Nat.le_of_ble_eq_true rfl⟩) hR hex (fun n S' hq => ⟨hp_mono.tr hm hq.1, hq.2 hq.1⟩) (Nat.le_of_ble_eq_true rfl) (Nat.le_of_ble_eq_true rfl) (rfl : 35 + 3 = 38) (fun z8 S9 H locs hq hR => ?_)
      obtain ⟨hm10, h⟩ := hq
      have h := h hm10
      have hm := hp_mono.tr hm hm10
      obtain ⟨hc11, h⟩ := h
      refine hx_putIN E hR in_X3 tyX3 tyX3_ok nmX3 hc11 rfl 2 (Nat.le_of_ble_eq_true rfl) rfl q190 (fun _ h => h) rfl (Or.inl rfl) dX2_setting_38 (rfl : 38 + 3 = 41) (fun S12 H locs e14 hm13 hR => ?_)
      have h := h S12 e14
      have hm := hp_mono.tr hm hm13
      refine hp_goto E (tgt := 80) dX2_setting_41 (by decide) ?_
      exact b80 _ _ _ _ h (lv_sub hl [] rfl) hR hm
    · have h := h.2 hb
      refine hp_iload_n E hl 1 rfl 1 rfl dX2_setting_44 (rfl : 44 + 1 = 45) ?_
      refine hp_bipush E (6 : Int32) (by decide) dX2_setting_45 (rfl : 45 + 2 = 47) ?_
      refine hp_icmp_ne E dX2_setting_47 (rfl : 47 + 3 = 50) (tgt := 67) (by decide) (fun hb => ?_) (fun hb => ?_)
      · have h := h.1 hb
        refine hp_aload_n E hl 0 rfl 0 rfl dX2_setting_50 (rfl : 50 + 1 = 51) ?_
        refine hp_getR E hR in_X2 hc0 rfl 6 (Nat.le_of_ble_eq_true rfl) rfl q129 (fun _ h => h) dX2_setting_51 (rfl : 51 + 3 = 54) ?_
        refine hp_aload_n E hl 0 rfl 0 rfl dX2_setting_54 (rfl : 54 + 1 = 55) ?_
        refine hp_iconst E (2 : Int32) (by decide) dX2_setting_55 (rfl : 55 + 1 = 56) ?_
        refine hp_bipush E (99 : Int32) (by decide) dX2_setting_56 (rfl : 56 + 2 = 58) ?_
        have h : wp_X2_number o (2 : Int32) (99 : Int32) Si _ _ := h
        refine hp_xi E (hp_rVX E hR hl (m_X2_number G _ _ _ _ _ _ hc0 h) hc0 (ci := 1) rfl rfl q552 q554 qs8 q74 q555 nf_X2_number ⟨Nat.le_of_ble_eq_true rfl, Nat.le_of_ble_eq_true rfl⟩ (rest := [hp_v B (st_R Si o 6)]) rfl (Nat.le_of_ble_eq_true rfl) dX2_setting_58 ⟨Nat.le_of_ble_eq_true rfl, Nat.le_of_ble_eq_true rfl⟩) hR hex (fun n S' hq => ⟨hp_mono.tr hm hq.1, hq.2 hq.1⟩) (Nat.le_of_ble_eq_true rfl) (Nat.le_of_ble_eq_true rfl) (rfl : 58 + 3 = 61) (fun z15 S16 H locs hq hR => ?_)
        obtain ⟨hm17, h⟩ := hq
        have h := h hm17
        have hm := hp_mono.tr hm hm17
        obtain ⟨hc18, h⟩ := h
        refine hx_putIN E hR in_X3 tyX3 tyX3_ok nmX3 hc18 rfl 3 (Nat.le_of_ble_eq_true rfl) rfl q194 (fun _ h => h) rfl (Or.inl rfl) dX2_setting_61 (rfl : 61 + 3 = 64) (fun S19 H locs e21 hm20 hR => ?_)
        have h := h S19 e21
        have hm := hp_mono.tr hm hm20
        refine hp_goto E (tgt := 80) dX2_setting_64 (by decide) ?_
        exact b80 _ _ _ _ h (lv_sub hl [] rfl) hR hm
      · have h := h.2 hb
        refine hp_aload_n E hl 0 rfl 0 rfl dX2_setting_67 (rfl : 67 + 1 = 68) ?_
        refine hp_getR E hR in_X2 hc0 rfl 6 (Nat.le_of_ble_eq_true rfl) rfl q129 (fun _ h => h) dX2_setting_68 (rfl : 68 + 3 = 71) ?_
        refine hp_aload_n E hl 0 rfl 0 rfl dX2_setting_71 (rfl : 71 + 1 = 72) ?_
        refine hp_iconst E (1 : Int32) (by decide) dX2_setting_72 (rfl : 72 + 1 = 73) ?_
        refine hp_iconst E (3 : Int32) (by decide) dX2_setting_73 (rfl : 73 + 1 = 74) ?_
        have h : wp_X2_number o (1 : Int32) (3 : Int32) Si _ _ := h
        refine hp_xi E (hp_rVX E hR hl (m_X2_number G _ _ _ _ _ _ hc0 h) hc0 (ci := 1) rfl rfl q552 q554 qs8 q74 q555 nf_X2_number ⟨Nat.le_of_ble_eq_true rfl, Nat.le_of_ble_eq_true rfl⟩ (rest := [hp_v B (st_R Si o 6)]) rfl (Nat.le_of_ble_eq_true rfl) dX2_setting_74 ⟨Nat.le_of_ble_eq_true rfl, Nat.le_of_ble_eq_true rfl⟩) hR hex (fun n S' hq => ⟨hp_mono.tr hm hq.1, hq.2 hq.1⟩) (Nat.le_of_ble_eq_true rfl) (Nat.le_of_ble_eq_true rfl) (rfl : 74 + 3 = 77) (fun z22 S23 H locs hq hR => ?_)
        obtain ⟨hm24, h⟩ := hq
        have h := h hm24
        have hm := hp_mono.tr hm hm24
        obtain ⟨hc25, h⟩ := h
        refine hx_putIN E hR in_X3 tyX3 tyX3_ok nmX3 hc25 rfl 4 (Nat.le_of_ble_eq_true rfl) rfl q197 (fun _ h => h) rfl (Or.inl rfl) dX2_setting_77 (rfl : 77 + 3 = 80) (fun S26 H locs e28 hm27 hR => ?_)
        have h := h S26 e28
        have hm := hp_mono.tr hm hm27
        exact b80 _ _ _ _ h (lv_sub hl [] rfl) hR hm
def wp_X9_init (o : Nat) (a1 : Int32) (S : hp_St) (Q : hp_St → Prop) : Prop := (∀ S1, S1 = st_pI S o 3 (2147483647 : Int32) → (∀ S4, S4 = st_pI S1 o 4 (15 : Int32) → (∀ S7, S7 = st_pI S4 o 6 (80 : Int32) → (∀ S10, S10 = st_pI S7 o 7 (3 : Int32) → (∀ S13, S13 = st_pI S10 o 0 a1 → Q S13)))))
theorem nf_X9_init : hp_nf yX9_init 1 = true := by decide +kernel
set_option maxHeartbeats 4000000 in
theorem m_X9_init {l : Launch} {B : Nat} {D : va_G} {s0 : State} {b0 : Nat} (G : hp_G l B D s0 b0) (o : Nat) (a1 : Int32) (Si : hp_St) (Q : hp_St → Prop) (hc0 : st_C Si o = 9) (h : wp_X9_init o a1 Si Q) : hp_M l B D s0 yX9_init cX9_init 2 none 2 128 0 0 [hp_v B o, .int a1] Si (hp_Qv B D s0 (fun S' => hp_mono Si S' ∧ Q S')) := by
  refine hp_start G (by decide +kernel) rfl rfl (lv := [(0, hp_v B o), (1, .int a1)]) (by simp [lg_sl, hp_vc, hp_ci, hp_cj]) (by simp [lv_args, hp_vc, hp_ci, hp_cj]) ?_
  intro p e s m args below meth c E ls hl hR
  have hm : hp_mono Si Si := hp_mono.rf
  unfold wp_X9_init at h
  refine hp_aload_n E hl 0 rfl 0 rfl dX9_init_0 (rfl : 0 + 1 = 1) ?_
  refine hp_obj E hl (hp_ne hR hc0) q561 q115 q116 dX9_init_1 (rfl : 1 + 3 = 4) (Nat.le_of_ble_eq_true rfl) (Nat.le_of_ble_eq_true rfl) (Nat.le_of_ble_eq_true rfl) ?_
  refine hp_aload_n E hl 0 rfl 0 rfl dX9_init_4 (rfl : 4 + 1 = 5) ?_
  refine hp_ldc E q562 dX9_init_5 (rfl : 5 + 2 = 7) ?_
  refine hx_putI E hR in_X9 tyX9 tyX9_ok nmX9 hc0 rfl 3 (Nat.le_of_ble_eq_true rfl) rfl q569 (fun _ h => h) (Or.inl rfl) (Or.inl rfl) dX9_init_7 (rfl : 7 + 3 = 10) (fun S1 H locs e3 hm2 hR => ?_)
  have h := h S1 e3
  have hm := hp_mono.tr hm hm2
  refine hp_aload_n E hl 0 rfl 0 rfl dX9_init_10 (rfl : 10 + 1 = 11) ?_
  refine hp_bipush E (15 : Int32) (by decide) dX9_init_11 (rfl : 11 + 2 = 13) ?_
  refine hx_putI E hR in_X9 tyX9 tyX9_ok nmX9 (hp_mono.c hm hc0) rfl 4 (Nat.le_of_ble_eq_true rfl) rfl q571 (fun _ h => h) (Or.inl rfl) (Or.inl rfl) dX9_init_13 (rfl : 13 + 3 = 16) (fun S4 H locs e6 hm5 hR => ?_)
  have h := h S4 e6
  have hm := hp_mono.tr hm hm5
  refine hp_aload_n E hl 0 rfl 0 rfl dX9_init_16 (rfl : 16 + 1 = 17) ?_
  refine hp_bipush E (80 : Int32) (by decide) dX9_init_17 (rfl : 17 + 2 = 19) ?_
  refine hx_putI E hR in_X9 tyX9 tyX9_ok nmX9 (hp_mono.c hm hc0) rfl 6 (Nat.le_of_ble_eq_true rfl) rfl q575 (fun _ h => h) (Or.inl rfl) (Or.inl rfl) dX9_init_19 (rfl : 19 + 3 = 22) (fun S7 H locs e9 hm8 hR => ?_)
  have h := h S7 e9
  have hm := hp_mono.tr hm hm8
  refine hp_aload_n E hl 0 rfl 0 rfl dX9_init_22 (rfl : 22 + 1 = 23) ?_
  refine hp_iconst E (3 : Int32) (by decide) dX9_init_23 (rfl : 23 + 1 = 24) ?_
  refine hx_putI E hR in_X9 tyX9 tyX9_ok nmX9 (hp_mono.c hm hc0) rfl 7 (Nat.le_of_ble_eq_true rfl) rfl q577 (fun _ h => h) (Or.inl rfl) (Or.inl rfl) dX9_init_24 (rfl : 24 + 3 = 27) (fun S10 H locs e12 hm11 hR => ?_)
  have h := h S10 e12
  have hm := hp_mono.tr hm hm11
  refine hp_aload_n E hl 0 rfl 0 rfl dX9_init_27 (rfl : 27 + 1 = 28) ?_
  refine hp_iload_n E hl 1 rfl 1 rfl dX9_init_28 (rfl : 28 + 1 = 29) ?_
  refine hx_putI E hR in_X9 tyX9 tyX9_ok nmX9 (hp_mono.c hm hc0) rfl 0 (Nat.le_of_ble_eq_true rfl) rfl q563 (fun _ h => h) (Or.inr ⟨E.nmm, rfl⟩) (Or.inl rfl) dX9_init_29 (rfl : 29 + 3 = 32) (fun S13 H locs e15 hm14 hR => ?_)
  have h := h S13 e15
  have hm := hp_mono.tr hm hm14
  exact hp_vret E hR ⟨hm, h⟩ (Nat.le_of_ble_eq_true rfl) (Nat.le_of_ble_eq_true rfl) dX9_init_32
def wb_X2_isWord_20 (o : Nat) (a1 : Int32) (t0 : Int32) (S : hp_St) (Q : Int32 → Prop) : Prop := (t0 = 0 ∨ t0 = 1) ∧ Q t0
def wb_X2_isWord_19 (o : Nat) (a1 : Int32) (S : hp_St) (Q : Int32 → Prop) : Prop := wb_X2_isWord_20 o a1 (0 : Int32) S Q
def wp_X2_isWord (o : Nat) (a1 : Int32) (S : hp_St) (Q : Int32 → Prop) : Prop := ((((st_I S o 3) = 0) → ((((st_I S o 4) = a1) → wb_X2_isWord_20 o a1 (1 : Int32) S Q) ∧ ((¬ ((st_I S o 4) = a1)) → wb_X2_isWord_19 o a1 S Q))) ∧ ((¬ ((st_I S o 3) = 0)) → wb_X2_isWord_19 o a1 S Q))
theorem nf_X2_isWord : hp_nf yX2_isWord 1 = true := by decide +kernel
set_option maxHeartbeats 4000000 in
theorem m_X2_isWord {l : Launch} {B : Nat} {D : va_G} {s0 : State} {b0 : Nat} (G : hp_G l B D s0 b0) (o : Nat) (a1 : Int32) (Si : hp_St) (Q : Int32 → Prop) (hc0 : st_C Si o = 2) (h : wp_X2_isWord o a1 Si Q) : hp_M l B D s0 yX2_isWord cX2_isWord 2 (some .boolean) 2 128 0 0 [hp_v B o, .int a1] Si (hp_Qi B D s0 (fun r S' => S' = Si ∧ Q r)) := by
  refine hp_start G (by decide +kernel) rfl rfl (lv := [(0, hp_v B o), (1, .int a1)]) (by simp [lg_sl, hp_vc, hp_ci, hp_cj]) (by simp [lv_args, hp_vc, hp_ci, hp_cj]) ?_
  intro p e s m args below meth c E ls hl hR
  generalize hH : s.heap = H at hR ⊢
  generalize hLo : ([] : List Loc) = locs at hR ⊢
  have b20 : ∀ (t0 : Int32) (H : Heap) (locs : List Loc) (ls : Array Slot), wb_X2_isWord_20 o a1 t0 Si Q → lv_has ls 2 [] → hp_S B D s0 Si H locs → W p l e ({ frames := 2, cells := 0, slots := 0, locals := 128 } : Room) s m args below meth c H locs 0 0 (MQ below (hp_Qi B D s0 (fun r S' => S' = Si ∧ Q r)) args s 0 0 (fun q => B < q)) (F0 m 20 ls [.int t0]) := by
    intro t0 H locs ls h hl hR
    unfold wb_X2_isWord_20 at h
    obtain ⟨hz2001, h⟩ := h
    exact hp_zret E hR hz2001 ⟨rfl, h⟩ (Nat.le_of_ble_eq_true rfl) (Nat.le_of_ble_eq_true rfl) dX2_isWord_20
  have b19 : ∀ (H : Heap) (locs : List Loc) (ls : Array Slot), wb_X2_isWord_19 o a1 Si Q → lv_has ls 2 [] → hp_S B D s0 Si H locs → W p l e ({ frames := 2, cells := 0, slots := 0, locals := 128 } : Room) s m args below meth c H locs 0 0 (MQ below (hp_Qi B D s0 (fun r S' => S' = Si ∧ Q r)) args s 0 0 (fun q => B < q)) (F0 m 19 ls []) := by
    intro  H locs ls h hl hR
    unfold wb_X2_isWord_19 at h
    refine hp_iconst E (0 : Int32) (by decide) dX2_isWord_19 (rfl : 19 + 1 = 20) ?_
    exact b20 _ _ _ _ h hl hR
  unfold wp_X2_isWord at h
  refine hp_aload_n E hl 0 rfl 0 rfl dX2_isWord_0 (rfl : 0 + 1 = 1) ?_
  refine hp_getI E hR in_X2 hc0 rfl 3 (Nat.le_of_ble_eq_true rfl) rfl q126 (fun _ h => h) dX2_isWord_1 (rfl : 1 + 3 = 4) ?_
  refine hp_if_ne E dX2_isWord_4 (rfl : 4 + 3 = 7) (tgt := 19) (by decide) (fun hb => ?_) (fun hb => ?_)
  · have h := h.1 hb
    refine hp_aload_n E hl 0 rfl 0 rfl dX2_isWord_7 (rfl : 7 + 1 = 8) ?_
    refine hp_getI E hR in_X2 hc0 rfl 4 (Nat.le_of_ble_eq_true rfl) rfl q127 (fun _ h => h) dX2_isWord_8 (rfl : 8 + 3 = 11) ?_
    refine hp_iload_n E hl 1 rfl 1 rfl dX2_isWord_11 (rfl : 11 + 1 = 12) ?_
    refine hp_icmp_ne E dX2_isWord_12 (rfl : 12 + 3 = 15) (tgt := 19) (by decide) (fun hb => ?_) (fun hb => ?_)
    · have h := h.1 hb
      refine hp_iconst E (1 : Int32) (by decide) dX2_isWord_15 (rfl : 15 + 1 = 16) ?_
      refine hp_goto E (tgt := 20) dX2_isWord_16 (by decide) ?_
      exact b20 _ _ _ _ h (lv_sub hl [] rfl) hR
    · have h := h.2 hb
      exact b19 _ _ _ h (lv_sub hl [] rfl) hR
  · have h := h.2 hb
    exact b19 _ _ _ h (lv_sub hl [] rfl) hR
def wp_X2_must (o : Nat) (a1 : Int32) (S : hp_St) (Q : hp_St → Prop) (X : Nat → hp_St → Prop) : Prop := wp_X2_isWord o a1 S (fun z1 => (((z1 = 0) → wp_X2_wrong o (1 : Int32) S (fun z2 S3 => hp_mono S S3 → (st_C S3 z2 = 8) ∧ X z2 S3)) ∧ ((¬ (z1 = 0)) → wp_X2_next o S (fun S6 => hp_mono S S6 → Q S6))))
theorem nf_X2_must : hp_nf yX2_must 1 = true := by decide +kernel
set_option maxHeartbeats 4000000 in
theorem m_X2_must {l : Launch} {B : Nat} {D : va_G} {s0 : State} {b0 : Nat} (G : hp_G l B D s0 b0) (o : Nat) (a1 : Int32) (Si : hp_St) (Q : hp_St → Prop) (X : Nat → hp_St → Prop) (hc0 : st_C Si o = 2) (h : wp_X2_must o a1 Si Q X) : hp_MX l B D s0 yX2_must cX2_must 2 none 8 512 1 8 [hp_v B o, .int a1] Si (hp_Qv B D s0 (fun S' => hp_mono Si S' ∧ Q S')) (fun n S' => hp_mono Si S' ∧ X n S') := by
  refine hp_startX G (by decide +kernel) rfl rfl (lv := [(0, hp_v B o), (1, .int a1)]) (by simp [lg_sl, hp_vc, hp_ci, hp_cj]) (by simp [lv_args, hp_vc, hp_ci, hp_cj]) ?_
  intro p e s m args below meth c E hex ls hl hR
  have hm : hp_mono Si Si := hp_mono.rf
  unfold wp_X2_must at h
  refine hp_aload_n E hl 0 rfl 0 rfl dX2_must_0 (rfl : 0 + 1 = 1) ?_
  refine hp_iload_n E hl 1 rfl 1 rfl dX2_must_1 (rfl : 1 + 1 = 2) ?_
  refine hp_fi (hp_rV E hR hl (m_X2_isWord G _ _ _ _ hc0 h) hc0 (ci := 1) rfl rfl q604 q606 qs11 q74 q607 nf_X2_isWord ⟨Nat.le_of_ble_eq_true rfl, Nat.le_of_ble_eq_true rfl⟩ (rest := []) rfl (Nat.le_of_ble_eq_true rfl) dX2_must_2 ⟨Nat.le_of_ble_eq_true rfl, Nat.le_of_ble_eq_true rfl⟩) hR (rfl : 2 + 3 = 5) (fun z1 Sx H locs hq hR => ?_)
  obtain ⟨hSx, h⟩ := hq
  rw [hSx] at hR
  refine hp_if_ne E dX2_must_5 (rfl : 5 + 3 = 8) (tgt := 14) (by decide) (fun hb => ?_) (fun hb => ?_)
  · have h := h.1 hb
    refine hp_aload_n E hl 0 rfl 0 rfl dX2_must_8 (rfl : 8 + 1 = 9) ?_
    refine hp_iconst E (1 : Int32) (by decide) dX2_must_9 (rfl : 9 + 1 = 10) ?_
    refine hp_fa (hp_rV E hR hl (m_X2_wrong G _ _ _ _ hc0 h) hc0 (ci := 1) rfl rfl q470 q472 qs5 q74 q473 nf_X2_wrong ⟨Nat.le_of_ble_eq_true rfl, Nat.le_of_ble_eq_true rfl⟩ (rest := []) rfl (Nat.le_of_ble_eq_true rfl) dX2_must_10 ⟨Nat.le_of_ble_eq_true rfl, Nat.le_of_ble_eq_true rfl⟩) hR (rfl : 10 + 3 = 13) (fun z2 S3 H locs hq hR => ?_)
    obtain ⟨hm4, h⟩ := hq
    have h := h hm4
    have hm := hp_mono.tr hm hm4
    obtain ⟨hc5, h⟩ := h
    exact hp_throw E hR hex hc5 ⟨hm, h⟩ (Nat.le_of_ble_eq_true rfl) (Nat.le_of_ble_eq_true rfl) dX2_must_13
  · have h := h.2 hb
    refine hp_aload_n E hl 0 rfl 0 rfl dX2_must_14 (rfl : 14 + 1 = 15) ?_
    refine hp_fv (hp_rV E hR hl (m_X2_next G _ _ _ hc0 h) hc0 (ci := 1) rfl rfl q403 q405 qs1 q74 q406 nf_X2_next ⟨Nat.le_of_ble_eq_true rfl, Nat.le_of_ble_eq_true rfl⟩ (rest := []) rfl (Nat.le_of_ble_eq_true rfl) dX2_must_15 ⟨Nat.le_of_ble_eq_true rfl, Nat.le_of_ble_eq_true rfl⟩) hR (rfl : 15 + 3 = 18) (fun S6 H locs hq hR => ?_)
    obtain ⟨hm7, h⟩ := hq
    have h := h hm7
    have hm := hp_mono.tr hm hm7
    exact vx_ret (hp_vret E hR ⟨hm, h⟩ (Nat.le_of_ble_eq_true rfl) (Nat.le_of_ble_eq_true rfl) dX2_must_18)
def wb_X2_classes_48 (o : Nat) (a1 : Nat) (S : hp_St) (K7 : Int32 → hp_St → Prop) (Q : hp_St → Prop) (X : Nat → hp_St → Prop) : Prop := (st_C S a1 = 9) ∧ (fun kq => wp_X2_number o (0 : Int32) (3 : Int32) S kq (fun n S' => hp_mono S S' → X n S')) (fun z4802 S4803 => hp_mono S S4803 → (∀ S4805, S4805 = st_pI S4803 a1 4 ((st_I S a1 4) ||| ((1 : Int32) <<< (z4802 &&& 31))) → wp_X2_isWord o (14 : Int32) S4805 (fun z4808 => (((z4808 = 0) → K7 z4808 S4805) ∧ ((¬ (z4808 = 0)) → wp_X2_next o S4805 (fun S4809 => hp_mono S4805 S4809 → K7 z4808 S4809))))))
def wb_X2_classes_7 (o : Nat) (a1 : Nat) (v2 : Int32) (S : hp_St) (K7 : Int32 → hp_St → Prop) (Q : hp_St → Prop) (X : Nat → hp_St → Prop) : Prop := (((v2 = 0) → Q S) ∧ ((¬ (v2 = 0)) → ((((st_I S o 3) = (1 : Int32)) → ((((st_I S o 4) < (4 : Int32)) → (st_C S a1 = 9) ∧ ((((((st_I S a1 4) >>> ((st_I S o 4) &&& 31)) &&& (1 : Int32)) = (1 : Int32)) → wp_X2_wrong o (3 : Int32) S (fun z702 S703 => hp_mono S S703 → (st_C S703 z702 = 8) ∧ X z702 S703)) ∧ ((¬ ((((st_I S a1 4) >>> ((st_I S o 4) &&& 31)) &&& (1 : Int32)) = (1 : Int32))) → wb_X2_classes_48 o a1 S K7 Q X))) ∧ ((¬ ((st_I S o 4) < (4 : Int32))) → wb_X2_classes_48 o a1 S K7 Q X))) ∧ ((¬ ((st_I S o 3) = (1 : Int32))) → wb_X2_classes_48 o a1 S K7 Q X))))
def wl_X2_classes_7 (o : Nat) (a1 : Nat) (v2 : Int32) (S : hp_St) (Q : hp_St → Prop) (X : Nat → hp_St → Prop) : Prop := ∃ (I : Int32 → hp_St → Prop) (μ : Int32 → hp_St → Nat), I v2 S ∧ ∀ (v2 : Int32) (S1 : hp_St), hp_mono S S1 → I v2 S1 → wb_X2_classes_7 o a1 v2 S1 (fun v2' S2 => I v2' S2 ∧ μ v2' S2 < μ v2 S1) Q X
def wp_X2_classes (o : Nat) (a1 : Nat) (S : hp_St) (Q : hp_St → Prop) (X : Nat → hp_St → Prop) : Prop := (st_C S a1 = 9) ∧ (∀ S2, S2 = st_pI S a1 4 (0 : Int32) → wl_X2_classes_7 o a1 (1 : Int32) S2 Q X)
theorem nf_X2_classes : hp_nf yX2_classes 1 = true := by decide +kernel
set_option maxHeartbeats 4000000 in
theorem m_X2_classes {l : Launch} {B : Nat} {D : va_G} {s0 : State} {b0 : Nat} (G : hp_G l B D s0 b0) (o : Nat) (a1 : Nat) (Si : hp_St) (Q : hp_St → Prop) (X : Nat → hp_St → Prop) (hc0 : st_C Si o = 2) (h : wp_X2_classes o a1 Si Q X) : hp_MX l B D s0 yX2_classes cX2_classes 3 none 9 576 1 8 [hp_v B o, hp_v B a1] Si (hp_Qv B D s0 (fun S' => hp_mono Si S' ∧ Q S')) (fun n S' => hp_mono Si S' ∧ X n S') := by
  refine hp_startX G (by decide +kernel) rfl rfl (lv := [(0, hp_v B o), (1, hp_v B a1)]) (by simp [lg_sl, hp_vc, hp_ci, hp_cj]) (by simp [lv_args, hp_vc, hp_ci, hp_cj]) ?_
  intro p e s m args below meth c E hex ls hl hR
  have hm : hp_mono Si Si := hp_mono.rf
  generalize hH : s.heap = H at hR ⊢
  generalize hLo : ([] : List Loc) = locs at hR ⊢
  have b7 : ∀ (v2 : Int32) (S : hp_St) (H : Heap) (locs : List Loc) (ls : Array Slot), wl_X2_classes_7 o a1 v2 S Q X → lv_has ls 3 [(0, hp_v B o), (1, hp_v B a1), (2, .int v2)] → hp_S B D s0 S H locs → hp_mono Si S → W p l e ({ frames := 9, cells := 1, slots := 8, locals := 576 } : Room) s m args below meth c H locs 0 0 (vx_MQ below (hp_Qv B D s0 (fun S' => hp_mono Si S' ∧ Q S')) (hp_XC B D s0 (fun n S' => hp_mono Si S' ∧ X n S')) args s 1 8 (fun q => B < q)) (F0 m 7 ls []) := by
    intro v2 S H locs ls h hl hR hm
    obtain ⟨I7, μ7, hI, hst⟩ := h
    obtain ⟨Sa7, eSa7⟩ : ∃ x, x = S := ⟨_, rfl⟩
    subst eSa7
    have key7 : ∀ (N : Nat) (v2 : Int32) (Su7 : hp_St) (H : Heap) (locs : List Loc) (ls : Array Slot), μ7 v2 Su7 < N → I7 v2 Su7 → lv_has ls 3 [(0, hp_v B o), (1, hp_v B a1), (2, .int v2)] → hp_S B D s0 Su7 H locs → hp_mono Sa7 Su7 → W p l e ({ frames := 9, cells := 1, slots := 8, locals := 576 } : Room) s m args below meth c H locs 0 0 (vx_MQ below (hp_Qv B D s0 (fun S' => hp_mono Si S' ∧ Q S')) (hp_XC B D s0 (fun n S' => hp_mono Si S' ∧ X n S')) args s 1 8 (fun q => B < q)) (F0 m 7 ls []) := by
      intro N
      induction N with
      | zero =>
        intro v2 Su7 H locs ls hN
        exact absurd hN (Nat.not_lt_zero _)
      | succ N ih7 =>
        intro v2 Su7 H locs ls hN hI hl hR ms7
        have h := hst v2 Su7 ms7 hI
        have hm := hp_mono.tr hm ms7
        obtain ⟨K7, hKe7⟩ : ∃ K : Int32 → hp_St → Prop, K = (fun v2' Sk => I7 v2' Sk ∧ μ7 v2' Sk < μ7 v2 Su7) := ⟨_, rfl⟩
        rw [← hKe7] at h
        have hK7 : ∀ (v2' : Int32) (Sk : hp_St) (H : Heap) (locs : List Loc) (ls : Array Slot), K7 v2' Sk → lv_has ls 3 [(0, hp_v B o), (1, hp_v B a1), (2, .int (v2'))] → hp_S B D s0 Sk H locs → hp_mono Sa7 Sk → W p l e ({ frames := 9, cells := 1, slots := 8, locals := 576 } : Room) s m args below meth c H locs 0 0 (vx_MQ below (hp_Qv B D s0 (fun S' => hp_mono Si S' ∧ Q S')) (hp_XC B D s0 (fun n S' => hp_mono Si S' ∧ X n S')) args s 1 8 (fun q => B < q)) (F0 m 7 ls []) := by
          intro v2' Sk H locs ls hI hl hR ms
          rw [hKe7] at hI
          exact ih7 v2' Sk H locs ls (Nat.lt_of_lt_of_le hI.2 (Nat.le_of_lt_succ hN)) hI.1 hl hR ms
        have b48 : ∀ (S : hp_St) (H : Heap) (locs : List Loc) (ls : Array Slot), wb_X2_classes_48 o a1 S K7 Q X → lv_has ls 3 [(0, hp_v B o), (1, hp_v B a1)] → hp_S B D s0 S H locs → hp_mono Si S → hp_mono Sa7 S → W p l e ({ frames := 9, cells := 1, slots := 8, locals := 576 } : Room) s m args below meth c H locs 0 0 (vx_MQ below (hp_Qv B D s0 (fun S' => hp_mono Si S' ∧ Q S')) (hp_XC B D s0 (fun n S' => hp_mono Si S' ∧ X n S')) args s 1 8 (fun q => B < q)) (F0 m 48 ls []) := by
          intro S H locs ls h hl hR hm ms7
          unfold wb_X2_classes_48 at h
          refine hp_aload_n E hl 1 rfl 1 rfl dX2_classes_48 (rfl : 48 + 1 = 49) ?_
          refine hp_dup E hp_vc dX2_classes_49 (rfl : 49 + 1 = 50) ?_
          obtain ⟨hc4801, h⟩ := h
          refine hp_getIN E hR in_X9 hc4801 rfl 4 (Nat.le_of_ble_eq_true rfl) rfl q572 (fun _ h => h) dX2_classes_50 (rfl : 50 + 3 = 53) ?_
          refine hp_iconst E (1 : Int32) (by decide) dX2_classes_53 (rfl : 53 + 1 = 54) ?_
          refine hp_aload_n E hl 0 rfl 0 rfl dX2_classes_54 (rfl : 54 + 1 = 55) ?_
          refine hp_iconst E (0 : Int32) (by decide) dX2_classes_55 (rfl : 55 + 1 = 56) ?_
          refine hp_iconst E (3 : Int32) (by decide) dX2_classes_56 (rfl : 56 + 1 = 57) ?_
          have h : wp_X2_number o (0 : Int32) (3 : Int32) S _ _ := h
          refine hp_xi E (hp_rVX E hR hl (m_X2_number G _ _ _ _ _ _ (hp_mono.c hm hc0) h) (hp_mono.c hm hc0) (ci := 1) rfl rfl q552 q554 qs8 q74 q555 nf_X2_number ⟨Nat.le_of_ble_eq_true rfl, Nat.le_of_ble_eq_true rfl⟩ (rest := [.int (1 : Int32), .int (st_I S a1 4), hp_v B a1]) rfl (Nat.le_of_ble_eq_true rfl) dX2_classes_57 ⟨Nat.le_of_ble_eq_true rfl, Nat.le_of_ble_eq_true rfl⟩) hR hex (fun n S' hq => ⟨hp_mono.tr hm hq.1, hq.2 hq.1⟩) (Nat.le_of_ble_eq_true rfl) (Nat.le_of_ble_eq_true rfl) (rfl : 57 + 3 = 60) (fun z4802 S4803 H locs hq hR => ?_)
          obtain ⟨hm4804, h⟩ := hq
          have h := h hm4804
          have hm := hp_mono.tr hm hm4804
          have ms7 := hp_mono.tr ms7 hm4804
          refine hp_ishl E dX2_classes_60 (rfl : 60 + 1 = 61) ?_
          refine hp_ior E dX2_classes_61 (rfl : 61 + 1 = 62) ?_
          refine hx_putIN E hR in_X9 tyX9 tyX9_ok nmX9 (hp_mono.c hm4804 hc4801) rfl 4 (Nat.le_of_ble_eq_true rfl) rfl q572 (fun _ h => h) rfl (Or.inl rfl) dX2_classes_62 (rfl : 62 + 3 = 65) (fun S4805 H locs e4807 hm4806 hR => ?_)
          have h := h S4805 e4807
          have hm := hp_mono.tr hm hm4806
          have ms7 := hp_mono.tr ms7 hm4806
          refine hp_aload_n E hl 0 rfl 0 rfl dX2_classes_65 (rfl : 65 + 1 = 66) ?_
          refine hp_bipush E (14 : Int32) (by decide) dX2_classes_66 (rfl : 66 + 2 = 68) ?_
          refine hp_fi (hp_rV E hR hl (m_X2_isWord G _ _ _ _ (hp_mono.c hm hc0) h) (hp_mono.c hm hc0) (ci := 1) rfl rfl q604 q606 qs11 q74 q607 nf_X2_isWord ⟨Nat.le_of_ble_eq_true rfl, Nat.le_of_ble_eq_true rfl⟩ (rest := []) rfl (Nat.le_of_ble_eq_true rfl) dX2_classes_68 ⟨Nat.le_of_ble_eq_true rfl, Nat.le_of_ble_eq_true rfl⟩) hR (rfl : 68 + 3 = 71) (fun z4808 Sx H locs hq hR => ?_)
          obtain ⟨hSx, h⟩ := hq
          rw [hSx] at hR
          refine hp_istore_n E hl 2 rfl (lv' := [(0, hp_v B o), (1, hp_v B a1)]) dX2_classes_71 (rfl : 71 + 1 = 72) (by decide) (by simp [hp_vc, hp_ci, hp_cj]) (fun ls hl => ?_)
          refine hp_iload_n E hl 2 rfl 0 rfl dX2_classes_72 (rfl : 72 + 1 = 73) ?_
          refine hp_if_eq E dX2_classes_73 (rfl : 73 + 3 = 76) (tgt := 7) (by decide) (fun hb => ?_) (fun hb => ?_)
          · have h := h.1 hb
            exact hK7 _ _ _ _ _ h (lv_sub hl [1, 2, 0] rfl) hR ms7
          · have h := h.2 hb
            refine hp_aload_n E hl 0 rfl 1 rfl dX2_classes_76 (rfl : 76 + 1 = 77) ?_
            refine hp_fv (hp_rV E hR hl (m_X2_next G _ _ _ (hp_mono.c hm hc0) h) (hp_mono.c hm hc0) (ci := 1) rfl rfl q403 q405 qs1 q74 q406 nf_X2_next ⟨Nat.le_of_ble_eq_true rfl, Nat.le_of_ble_eq_true rfl⟩ (rest := []) rfl (Nat.le_of_ble_eq_true rfl) dX2_classes_77 ⟨Nat.le_of_ble_eq_true rfl, Nat.le_of_ble_eq_true rfl⟩) hR (rfl : 77 + 3 = 80) (fun S4809 H locs hq hR => ?_)
            obtain ⟨hm4810, h⟩ := hq
            have h := h hm4810
            have hm := hp_mono.tr hm hm4810
            have ms7 := hp_mono.tr ms7 hm4810
            refine hp_goto E (tgt := 7) dX2_classes_80 (by decide) ?_
            exact hK7 _ _ _ _ _ h (lv_sub hl [1, 2, 0] rfl) hR ms7
        unfold wb_X2_classes_7 at h
        refine hp_iload_n E hl 2 rfl 2 rfl dX2_classes_7 (rfl : 7 + 1 = 8) ?_
        refine hp_if_eq E dX2_classes_8 (rfl : 8 + 3 = 11) (tgt := 83) (by decide) (fun hb => ?_) (fun hb => ?_)
        · have h := h.1 hb
          exact vx_ret (hp_vret E hR ⟨hm, h⟩ (Nat.le_of_ble_eq_true rfl) (Nat.le_of_ble_eq_true rfl) dX2_classes_83)
        · have h := h.2 hb
          refine hp_aload_n E hl 0 rfl 0 rfl dX2_classes_11 (rfl : 11 + 1 = 12) ?_
          refine hp_getI E hR in_X2 (hp_mono.c hm hc0) rfl 3 (Nat.le_of_ble_eq_true rfl) rfl q126 (fun _ h => h) dX2_classes_12 (rfl : 12 + 3 = 15) ?_
          refine hp_iconst E (1 : Int32) (by decide) dX2_classes_15 (rfl : 15 + 1 = 16) ?_
          refine hp_icmp_ne E dX2_classes_16 (rfl : 16 + 3 = 19) (tgt := 48) (by decide) (fun hb => ?_) (fun hb => ?_)
          · have h := h.1 hb
            refine hp_aload_n E hl 0 rfl 0 rfl dX2_classes_19 (rfl : 19 + 1 = 20) ?_
            refine hp_getI E hR in_X2 (hp_mono.c hm hc0) rfl 4 (Nat.le_of_ble_eq_true rfl) rfl q127 (fun _ h => h) dX2_classes_20 (rfl : 20 + 3 = 23) ?_
            refine hp_iconst E (4 : Int32) (by decide) dX2_classes_23 (rfl : 23 + 1 = 24) ?_
            refine hp_icmp_ge E dX2_classes_24 (rfl : 24 + 3 = 27) (tgt := 48) (by decide) (fun hb => ?_) (fun hb => ?_)
            · have h := h.1 hb
              refine hp_aload_n E hl 1 rfl 1 rfl dX2_classes_27 (rfl : 27 + 1 = 28) ?_
              obtain ⟨hc701, h⟩ := h
              refine hp_getIN E hR in_X9 hc701 rfl 4 (Nat.le_of_ble_eq_true rfl) rfl q572 (fun _ h => h) dX2_classes_28 (rfl : 28 + 3 = 31) ?_
              refine hp_aload_n E hl 0 rfl 0 rfl dX2_classes_31 (rfl : 31 + 1 = 32) ?_
              refine hp_getI E hR in_X2 (hp_mono.c hm hc0) rfl 4 (Nat.le_of_ble_eq_true rfl) rfl q127 (fun _ h => h) dX2_classes_32 (rfl : 32 + 3 = 35) ?_
              refine hp_ishr E dX2_classes_35 (rfl : 35 + 1 = 36) ?_
              refine hp_iconst E (1 : Int32) (by decide) dX2_classes_36 (rfl : 36 + 1 = 37) ?_
              refine hp_iand E dX2_classes_37 (rfl : 37 + 1 = 38) ?_
              refine hp_iconst E (1 : Int32) (by decide) dX2_classes_38 (rfl : 38 + 1 = 39) ?_
              refine hp_icmp_ne E dX2_classes_39 (rfl : 39 + 3 = 42) (tgt := 48) (by decide) (fun hb => ?_) (fun hb => ?_)
              · have h := h.1 hb
                refine hp_aload_n E hl 0 rfl 0 rfl dX2_classes_42 (rfl : 42 + 1 = 43) ?_
                refine hp_iconst E (3 : Int32) (by decide) dX2_classes_43 (rfl : 43 + 1 = 44) ?_
                refine hp_fa (hp_rV E hR hl (m_X2_wrong G _ _ _ _ (hp_mono.c hm hc0) h) (hp_mono.c hm hc0) (ci := 1) rfl rfl q470 q472 qs5 q74 q473 nf_X2_wrong ⟨Nat.le_of_ble_eq_true rfl, Nat.le_of_ble_eq_true rfl⟩ (rest := []) rfl (Nat.le_of_ble_eq_true rfl) dX2_classes_44 ⟨Nat.le_of_ble_eq_true rfl, Nat.le_of_ble_eq_true rfl⟩) hR (rfl : 44 + 3 = 47) (fun z702 S703 H locs hq hR => ?_)
                obtain ⟨hm704, h⟩ := hq
                have h := h hm704
                have hm := hp_mono.tr hm hm704
                have ms7 := hp_mono.tr ms7 hm704
                obtain ⟨hc705, h⟩ := h
                exact hp_throw E hR hex hc705 ⟨hm, h⟩ (Nat.le_of_ble_eq_true rfl) (Nat.le_of_ble_eq_true rfl) dX2_classes_47
              · have h := h.2 hb
                exact b48 _ _ _ _ h (lv_sub hl [0, 1] rfl) hR hm ms7
            · have h := h.2 hb
              exact b48 _ _ _ _ h (lv_sub hl [0, 1] rfl) hR hm ms7
          · have h := h.2 hb
            exact b48 _ _ _ _ h (lv_sub hl [0, 1] rfl) hR hm ms7
    exact key7 (μ7 v2 Sa7 + 1) v2 _ H locs ls (Nat.lt_succ_self _) hI hl hR hp_mono.rf
  unfold wp_X2_classes at h
  refine hp_aload_n E hl 1 rfl 1 rfl dX2_classes_0 (rfl : 0 + 1 = 1) ?_
  refine hp_iconst E (0 : Int32) (by decide) dX2_classes_1 (rfl : 1 + 1 = 2) ?_
  obtain ⟨hc1, h⟩ := h
  refine hx_putIN E hR in_X9 tyX9 tyX9_ok nmX9 hc1 rfl 4 (Nat.le_of_ble_eq_true rfl) rfl q572 (fun _ h => h) rfl (Or.inl rfl) dX2_classes_2 (rfl : 2 + 3 = 5) (fun S2 H locs e4 hm3 hR => ?_)
  have h := h S2 e4
  have hm := hp_mono.tr hm hm3
  refine hp_iconst E (1 : Int32) (by decide) dX2_classes_5 (rfl : 5 + 1 = 6) ?_
  refine hp_istore_n E hl 2 rfl (lv' := [(0, hp_v B o), (1, hp_v B a1)]) dX2_classes_6 (rfl : 6 + 1 = 7) (by decide) (by simp [hp_vc, hp_ci, hp_cj]) (fun ls hl => ?_)
  exact b7 _ _ _ _ _ h (lv_sub hl [1, 2, 0] rfl) hR hm
def wb_X2_whom_181 (o : Nat) (a1 : Nat) (S : hp_St) (Q : hp_St → Prop) (X : Nat → hp_St → Prop) : Prop := Q S
def wb_X2_whom_178 (o : Nat) (a1 : Nat) (v2 : Int32) (S : hp_St) (K2 : Int32 → hp_St → Prop) (Q : hp_St → Prop) (X : Nat → hp_St → Prop) : Prop := K2 v2 S
def wb_X2_whom_175 (o : Nat) (a1 : Nat) (v2 : Int32) (t0 : Nat) (t1 : Int32) (S : hp_St) (K2 : Int32 → hp_St → Prop) (Q : hp_St → Prop) (X : Nat → hp_St → Prop) : Prop := (st_C S t0 = 9) ∧ (∀ S17502, S17502 = st_pI S t0 7 t1 → wb_X2_whom_178 o a1 v2 S17502 K2 Q X)
def wb_X2_whom_43 (o : Nat) (a1 : Nat) (v2 : Int32) (v3 : Int32) (t0 : Int32) (S : hp_St) (K2 : Int32 → hp_St → Prop) (Q : hp_St → Prop) (X : Nat → hp_St → Prop) : Prop := ((((v2 &&& t0) = 0) → wp_X2_next o S (fun S4301 => hp_mono S S4301 → (((v3 = (8 : Int32)) → (fun kq => wp_X2_number o (0 : Int32) (130 : Int32) S4301 kq (fun n S' => hp_mono S4301 S' → X n S')) (fun z4303 S4304 => hp_mono S4301 S4304 → (st_C S4304 a1 = 9) ∧ (∀ S4307, S4307 = st_pI S4304 a1 2 z4303 → (fun kq => wp_X2_must o (13 : Int32) S4307 kq (fun n S' => hp_mono S4307 S' → X n S')) (fun S4310 => hp_mono S4307 S4310 → (fun kq => wp_X2_number o (st_I S4310 a1 2) (130 : Int32) S4310 kq (fun n S' => hp_mono S4310 S' → X n S')) (fun z4312 S4313 => hp_mono S4310 S4313 → (∀ S4315, S4315 = st_pI S4313 a1 3 z4312 → wb_X2_whom_178 o a1 (v2 ||| t0) S4315 K2 Q X)))))) ∧ ((¬ (v3 = (8 : Int32))) → (((v3 = (10 : Int32)) → (fun kq => wp_X2_number o (0 : Int32) (79 : Int32) S4301 kq (fun n S' => hp_mono S4301 S' → X n S')) (fun z4318 S4319 => hp_mono S4301 S4319 → (st_C S4319 a1 = 9) ∧ (∀ S4322, S4322 = st_pI S4319 a1 5 z4318 → (fun kq => wp_X2_must o (13 : Int32) S4322 kq (fun n S' => hp_mono S4322 S' → X n S')) (fun S4325 => hp_mono S4322 S4325 → (fun kq => wp_X2_number o (st_I S4325 a1 5) (79 : Int32) S4325 kq (fun n S' => hp_mono S4325 S' → X n S')) (fun z4327 S4328 => hp_mono S4325 S4328 → (∀ S4330, S4330 = st_pI S4328 a1 6 z4327 → wb_X2_whom_178 o a1 (v2 ||| t0) S4330 K2 Q X)))))) ∧ ((¬ (v3 = (10 : Int32))) → (((v3 = (9 : Int32)) → (fun kq => wp_X2_classes o a1 S4301 kq (fun n S' => hp_mono S4301 S' → X n S')) (fun S4333 => hp_mono S4301 S4333 → wb_X2_whom_178 o a1 (v2 ||| t0) S4333 K2 Q X)) ∧ ((¬ (v3 = (9 : Int32))) → (((v3 = (11 : Int32)) → wb_X2_whom_175 o a1 (v2 ||| t0) a1 (2 : Int32) S4301 K2 Q X) ∧ ((¬ (v3 = (11 : Int32))) → wb_X2_whom_175 o a1 (v2 ||| t0) a1 (1 : Int32) S4301 K2 Q X)))))))))) ∧ ((¬ ((v2 &&& t0) = 0)) → wp_X2_wrong o (3 : Int32) S (fun z4335 S4336 => hp_mono S S4336 → (st_C S4336 z4335 = 8) ∧ X z4335 S4336)))
def wb_X2_whom_2 (o : Nat) (a1 : Nat) (v2 : Int32) (S : hp_St) (K2 : Int32 → hp_St → Prop) (Q : hp_St → Prop) (X : Nat → hp_St → Prop) : Prop := ((((st_I S o 3) = 0) → wp_X1_in (st_I S o 4) (8 : Int32) (12 : Int32) S (fun z201 => (((z201 = 0) → wb_X2_whom_181 o a1 S Q X) ∧ ((¬ (z201 = 0)) → ((((st_I S o 4) = (12 : Int32)) → wb_X2_whom_43 o a1 v2 (st_I S o 4) (2048 : Int32) S K2 Q X) ∧ ((¬ ((st_I S o 4) = (12 : Int32))) → wb_X2_whom_43 o a1 v2 (st_I S o 4) ((1 : Int32) <<< ((st_I S o 4) &&& 31)) S K2 Q X)))))) ∧ ((¬ ((st_I S o 3) = 0)) → wb_X2_whom_181 o a1 S Q X))
def wl_X2_whom_2 (o : Nat) (a1 : Nat) (v2 : Int32) (S : hp_St) (Q : hp_St → Prop) (X : Nat → hp_St → Prop) : Prop := ∃ (I : Int32 → hp_St → Prop) (μ : Int32 → hp_St → Nat), I v2 S ∧ ∀ (v2 : Int32) (S1 : hp_St), hp_mono S S1 → I v2 S1 → wb_X2_whom_2 o a1 v2 S1 (fun v2' S2 => I v2' S2 ∧ μ v2' S2 < μ v2 S1) Q X
def wp_X2_whom (o : Nat) (a1 : Nat) (S : hp_St) (Q : hp_St → Prop) (X : Nat → hp_St → Prop) : Prop := wl_X2_whom_2 o a1 (0 : Int32) S Q X
theorem nf_X2_whom : hp_nf yX2_whom 1 = true := by decide +kernel
set_option maxHeartbeats 4000000 in
theorem m_X2_whom {l : Launch} {B : Nat} {D : va_G} {s0 : State} {b0 : Nat} (G : hp_G l B D s0 b0) (o : Nat) (a1 : Nat) (Si : hp_St) (Q : hp_St → Prop) (X : Nat → hp_St → Prop) (hc0 : st_C Si o = 2) (h : wp_X2_whom o a1 Si Q X) : hp_MX l B D s0 yX2_whom cX2_whom 5 none 10 640 1 8 [hp_v B o, hp_v B a1] Si (hp_Qv B D s0 (fun S' => hp_mono Si S' ∧ Q S')) (fun n S' => hp_mono Si S' ∧ X n S') := by
  refine hp_startX G (by decide +kernel) rfl rfl (lv := [(0, hp_v B o), (1, hp_v B a1)]) (by simp [lg_sl, hp_vc, hp_ci, hp_cj]) (by simp [lv_args, hp_vc, hp_ci, hp_cj]) ?_
  intro p e s m args below meth c E hex ls hl hR
  have hm : hp_mono Si Si := hp_mono.rf
  generalize hH : s.heap = H at hR ⊢
  generalize hLo : ([] : List Loc) = locs at hR ⊢
  have b181 : ∀ (S : hp_St) (H : Heap) (locs : List Loc) (ls : Array Slot), wb_X2_whom_181 o a1 S Q X → lv_has ls 5 [] → hp_S B D s0 S H locs → hp_mono Si S → W p l e ({ frames := 10, cells := 1, slots := 8, locals := 640 } : Room) s m args below meth c H locs 0 0 (vx_MQ below (hp_Qv B D s0 (fun S' => hp_mono Si S' ∧ Q S')) (hp_XC B D s0 (fun n S' => hp_mono Si S' ∧ X n S')) args s 1 8 (fun q => B < q)) (F0 m 181 ls []) := by
    intro S H locs ls h hl hR hm
    unfold wb_X2_whom_181 at h
    exact vx_ret (hp_vret E hR ⟨hm, h⟩ (Nat.le_of_ble_eq_true rfl) (Nat.le_of_ble_eq_true rfl) dX2_whom_181)
  have b2 : ∀ (v2 : Int32) (S : hp_St) (H : Heap) (locs : List Loc) (ls : Array Slot), wl_X2_whom_2 o a1 v2 S Q X → lv_has ls 5 [(0, hp_v B o), (1, hp_v B a1), (2, .int v2)] → hp_S B D s0 S H locs → hp_mono Si S → W p l e ({ frames := 10, cells := 1, slots := 8, locals := 640 } : Room) s m args below meth c H locs 0 0 (vx_MQ below (hp_Qv B D s0 (fun S' => hp_mono Si S' ∧ Q S')) (hp_XC B D s0 (fun n S' => hp_mono Si S' ∧ X n S')) args s 1 8 (fun q => B < q)) (F0 m 2 ls []) := by
    intro v2 S H locs ls h hl hR hm
    obtain ⟨I2, μ2, hI, hst⟩ := h
    obtain ⟨Sa2, eSa2⟩ : ∃ x, x = S := ⟨_, rfl⟩
    subst eSa2
    have key2 : ∀ (N : Nat) (v2 : Int32) (Su2 : hp_St) (H : Heap) (locs : List Loc) (ls : Array Slot), μ2 v2 Su2 < N → I2 v2 Su2 → lv_has ls 5 [(0, hp_v B o), (1, hp_v B a1), (2, .int v2)] → hp_S B D s0 Su2 H locs → hp_mono Sa2 Su2 → W p l e ({ frames := 10, cells := 1, slots := 8, locals := 640 } : Room) s m args below meth c H locs 0 0 (vx_MQ below (hp_Qv B D s0 (fun S' => hp_mono Si S' ∧ Q S')) (hp_XC B D s0 (fun n S' => hp_mono Si S' ∧ X n S')) args s 1 8 (fun q => B < q)) (F0 m 2 ls []) := by
      intro N
      induction N with
      | zero =>
        intro v2 Su2 H locs ls hN
        exact absurd hN (Nat.not_lt_zero _)
      | succ N ih2 =>
        intro v2 Su2 H locs ls hN hI hl hR ms2
        have h := hst v2 Su2 ms2 hI
        have hm := hp_mono.tr hm ms2
        obtain ⟨K2, hKe2⟩ : ∃ K : Int32 → hp_St → Prop, K = (fun v2' Sk => I2 v2' Sk ∧ μ2 v2' Sk < μ2 v2 Su2) := ⟨_, rfl⟩
        rw [← hKe2] at h
        have hK2 : ∀ (v2' : Int32) (Sk : hp_St) (H : Heap) (locs : List Loc) (ls : Array Slot), K2 v2' Sk → lv_has ls 5 [(0, hp_v B o), (1, hp_v B a1), (2, .int (v2'))] → hp_S B D s0 Sk H locs → hp_mono Sa2 Sk → W p l e ({ frames := 10, cells := 1, slots := 8, locals := 640 } : Room) s m args below meth c H locs 0 0 (vx_MQ below (hp_Qv B D s0 (fun S' => hp_mono Si S' ∧ Q S')) (hp_XC B D s0 (fun n S' => hp_mono Si S' ∧ X n S')) args s 1 8 (fun q => B < q)) (F0 m 2 ls []) := by
          intro v2' Sk H locs ls hI hl hR ms
          rw [hKe2] at hI
          exact ih2 v2' Sk H locs ls (Nat.lt_of_lt_of_le hI.2 (Nat.le_of_lt_succ hN)) hI.1 hl hR ms
        have b178 : ∀ (v2 : Int32) (S : hp_St) (H : Heap) (locs : List Loc) (ls : Array Slot), wb_X2_whom_178 o a1 v2 S K2 Q X → lv_has ls 5 [(0, hp_v B o), (1, hp_v B a1), (2, .int v2)] → hp_S B D s0 S H locs → hp_mono Si S → hp_mono Sa2 S → W p l e ({ frames := 10, cells := 1, slots := 8, locals := 640 } : Room) s m args below meth c H locs 0 0 (vx_MQ below (hp_Qv B D s0 (fun S' => hp_mono Si S' ∧ Q S')) (hp_XC B D s0 (fun n S' => hp_mono Si S' ∧ X n S')) args s 1 8 (fun q => B < q)) (F0 m 178 ls []) := by
          intro v2 S H locs ls h hl hR hm ms2
          unfold wb_X2_whom_178 at h
          refine hp_goto E (tgt := 2) dX2_whom_178 (by decide) ?_
          exact hK2 _ _ _ _ _ h hl hR ms2
        have b175 : ∀ (v2 : Int32) (t0 : Nat) (t1 : Int32) (S : hp_St) (H : Heap) (locs : List Loc) (ls : Array Slot), wb_X2_whom_175 o a1 v2 t0 t1 S K2 Q X → lv_has ls 5 [(0, hp_v B o), (1, hp_v B a1), (2, .int v2)] → hp_S B D s0 S H locs → hp_mono Si S → hp_mono Sa2 S → W p l e ({ frames := 10, cells := 1, slots := 8, locals := 640 } : Room) s m args below meth c H locs 0 0 (vx_MQ below (hp_Qv B D s0 (fun S' => hp_mono Si S' ∧ Q S')) (hp_XC B D s0 (fun n S' => hp_mono Si S' ∧ X n S')) args s 1 8 (fun q => B < q)) (F0 m 175 ls [.int t1, hp_v B t0]) := by
          intro v2 t0 t1 S H locs ls h hl hR hm ms2
          unfold wb_X2_whom_175 at h
          obtain ⟨hc17501, h⟩ := h
          refine hx_putIN E hR in_X9 tyX9 tyX9_ok nmX9 hc17501 rfl 7 (Nat.le_of_ble_eq_true rfl) rfl q578 (fun _ h => h) rfl (Or.inl rfl) dX2_whom_175 (rfl : 175 + 3 = 178) (fun S17502 H locs e17504 hm17503 hR => ?_)
          have h := h S17502 e17504
          have hm := hp_mono.tr hm hm17503
          have ms2 := hp_mono.tr ms2 hm17503
          exact b178 _ _ _ _ _ h hl hR hm ms2
        have b43 : ∀ (v2 : Int32) (v3 : Int32) (t0 : Int32) (S : hp_St) (H : Heap) (locs : List Loc) (ls : Array Slot), wb_X2_whom_43 o a1 v2 v3 t0 S K2 Q X → lv_has ls 5 [(0, hp_v B o), (1, hp_v B a1), (2, .int v2), (3, .int v3)] → hp_S B D s0 S H locs → hp_mono Si S → hp_mono Sa2 S → W p l e ({ frames := 10, cells := 1, slots := 8, locals := 640 } : Room) s m args below meth c H locs 0 0 (vx_MQ below (hp_Qv B D s0 (fun S' => hp_mono Si S' ∧ Q S')) (hp_XC B D s0 (fun n S' => hp_mono Si S' ∧ X n S')) args s 1 8 (fun q => B < q)) (F0 m 43 ls [.int t0]) := by
          intro v2 v3 t0 S H locs ls h hl hR hm ms2
          unfold wb_X2_whom_43 at h
          refine hp_istore E hl 4 (lv' := [(0, hp_v B o), (1, hp_v B a1), (2, .int v2), (3, .int v3)]) dX2_whom_43 (rfl : 43 + 2 = 45) (by decide) rfl (fun ls hl => ?_)
          refine hp_iload_n E hl 2 rfl 3 rfl dX2_whom_45 (rfl : 45 + 1 = 46) ?_
          refine hp_iload E hl 0 rfl dX2_whom_46 (rfl : 46 + 2 = 48) ?_
          refine hp_iand E dX2_whom_48 (rfl : 48 + 1 = 49) ?_
          refine hp_if_eq E dX2_whom_49 (rfl : 49 + 3 = 52) (tgt := 58) (by decide) (fun hb => ?_) (fun hb => ?_)
          · have h := h.1 hb
            refine hp_iload_n E hl 2 rfl 3 rfl dX2_whom_58 (rfl : 58 + 1 = 59) ?_
            refine hp_iload E hl 0 rfl dX2_whom_59 (rfl : 59 + 2 = 61) ?_
            refine hp_ior E dX2_whom_61 (rfl : 61 + 1 = 62) ?_
            refine hp_istore_n E hl 2 rfl (lv' := [(4, .int t0), (0, hp_v B o), (1, hp_v B a1), (3, .int v3)]) dX2_whom_62 (rfl : 62 + 1 = 63) (by decide) (by simp [hp_vc, hp_ci, hp_cj]) (fun ls hl => ?_)
            refine hp_aload_n E hl 0 rfl 2 rfl dX2_whom_63 (rfl : 63 + 1 = 64) ?_
            refine hp_fv (hp_rV E hR hl (m_X2_next G _ _ _ (hp_mono.c hm hc0) h) (hp_mono.c hm hc0) (ci := 1) rfl rfl q403 q405 qs1 q74 q406 nf_X2_next ⟨Nat.le_of_ble_eq_true rfl, Nat.le_of_ble_eq_true rfl⟩ (rest := []) rfl (Nat.le_of_ble_eq_true rfl) dX2_whom_64 ⟨Nat.le_of_ble_eq_true rfl, Nat.le_of_ble_eq_true rfl⟩) hR (rfl : 64 + 3 = 67) (fun S4301 H locs hq hR => ?_)
            obtain ⟨hm4302, h⟩ := hq
            have h := h hm4302
            have hm := hp_mono.tr hm hm4302
            have ms2 := hp_mono.tr ms2 hm4302
            refine hp_iload_n E hl 3 rfl 4 rfl dX2_whom_67 (rfl : 67 + 1 = 68) ?_
            refine hp_bipush E (8 : Int32) (by decide) dX2_whom_68 (rfl : 68 + 2 = 70) ?_
            refine hp_icmp_ne E dX2_whom_70 (rfl : 70 + 3 = 73) (tgt := 109) (by decide) (fun hb => ?_) (fun hb => ?_)
            · have h := h.1 hb
              refine hp_aload_n E hl 1 rfl 3 rfl dX2_whom_73 (rfl : 73 + 1 = 74) ?_
              refine hp_aload_n E hl 0 rfl 2 rfl dX2_whom_74 (rfl : 74 + 1 = 75) ?_
              refine hp_iconst E (0 : Int32) (by decide) dX2_whom_75 (rfl : 75 + 1 = 76) ?_
              refine hp_sipush E (130 : Int32) (by decide) dX2_whom_76 (rfl : 76 + 3 = 79) ?_
              have h : wp_X2_number o (0 : Int32) (130 : Int32) S4301 _ _ := h
              refine hp_xi E (hp_rVX E hR hl (m_X2_number G _ _ _ _ _ _ (hp_mono.c hm hc0) h) (hp_mono.c hm hc0) (ci := 1) rfl rfl q552 q554 qs8 q74 q555 nf_X2_number ⟨Nat.le_of_ble_eq_true rfl, Nat.le_of_ble_eq_true rfl⟩ (rest := [hp_v B a1]) rfl (Nat.le_of_ble_eq_true rfl) dX2_whom_79 ⟨Nat.le_of_ble_eq_true rfl, Nat.le_of_ble_eq_true rfl⟩) hR hex (fun n S' hq => ⟨hp_mono.tr hm hq.1, hq.2 hq.1⟩) (Nat.le_of_ble_eq_true rfl) (Nat.le_of_ble_eq_true rfl) (rfl : 79 + 3 = 82) (fun z4303 S4304 H locs hq hR => ?_)
              obtain ⟨hm4305, h⟩ := hq
              have h := h hm4305
              have hm := hp_mono.tr hm hm4305
              have ms2 := hp_mono.tr ms2 hm4305
              obtain ⟨hc4306, h⟩ := h
              refine hx_putIN E hR in_X9 tyX9 tyX9_ok nmX9 hc4306 rfl 2 (Nat.le_of_ble_eq_true rfl) rfl q568 (fun _ h => h) rfl (Or.inl rfl) dX2_whom_82 (rfl : 82 + 3 = 85) (fun S4307 H locs e4309 hm4308 hR => ?_)
              have h := h S4307 e4309
              have hm := hp_mono.tr hm hm4308
              have ms2 := hp_mono.tr ms2 hm4308
              refine hp_aload_n E hl 0 rfl 2 rfl dX2_whom_85 (rfl : 85 + 1 = 86) ?_
              refine hp_bipush E (13 : Int32) (by decide) dX2_whom_86 (rfl : 86 + 2 = 88) ?_
              have h : wp_X2_must o (13 : Int32) S4307 _ _ := h
              refine hp_xv E (hp_rVX E hR hl (m_X2_must G _ _ _ _ _ (hp_mono.c hm hc0) h) (hp_mono.c hm hc0) (ci := 1) rfl rfl q600 q602 qs10 q74 q603 nf_X2_must ⟨Nat.le_of_ble_eq_true rfl, Nat.le_of_ble_eq_true rfl⟩ (rest := []) rfl (Nat.le_of_ble_eq_true rfl) dX2_whom_88 ⟨Nat.le_of_ble_eq_true rfl, Nat.le_of_ble_eq_true rfl⟩) hR hex (fun n S' hq => ⟨hp_mono.tr hm hq.1, hq.2 hq.1⟩) (Nat.le_of_ble_eq_true rfl) (Nat.le_of_ble_eq_true rfl) (rfl : 88 + 3 = 91) (fun S4310 H locs hq hR => ?_)
              obtain ⟨hm4311, h⟩ := hq
              have h := h hm4311
              have hm := hp_mono.tr hm hm4311
              have ms2 := hp_mono.tr ms2 hm4311
              refine hp_aload_n E hl 1 rfl 3 rfl dX2_whom_91 (rfl : 91 + 1 = 92) ?_
              refine hp_aload_n E hl 0 rfl 2 rfl dX2_whom_92 (rfl : 92 + 1 = 93) ?_
              refine hp_aload_n E hl 1 rfl 3 rfl dX2_whom_93 (rfl : 93 + 1 = 94) ?_
              refine hp_getIN E hR in_X9 (hp_mono.c hm4311 (hp_mono.c hm4308 hc4306)) rfl 2 (Nat.le_of_ble_eq_true rfl) rfl q568 (fun _ h => h) dX2_whom_94 (rfl : 94 + 3 = 97) ?_
              refine hp_sipush E (130 : Int32) (by decide) dX2_whom_97 (rfl : 97 + 3 = 100) ?_
              have h : wp_X2_number o (st_I S4310 a1 2) (130 : Int32) S4310 _ _ := h
              refine hp_xi E (hp_rVX E hR hl (m_X2_number G _ _ _ _ _ _ (hp_mono.c hm hc0) h) (hp_mono.c hm hc0) (ci := 1) rfl rfl q552 q554 qs8 q74 q555 nf_X2_number ⟨Nat.le_of_ble_eq_true rfl, Nat.le_of_ble_eq_true rfl⟩ (rest := [hp_v B a1]) rfl (Nat.le_of_ble_eq_true rfl) dX2_whom_100 ⟨Nat.le_of_ble_eq_true rfl, Nat.le_of_ble_eq_true rfl⟩) hR hex (fun n S' hq => ⟨hp_mono.tr hm hq.1, hq.2 hq.1⟩) (Nat.le_of_ble_eq_true rfl) (Nat.le_of_ble_eq_true rfl) (rfl : 100 + 3 = 103) (fun z4312 S4313 H locs hq hR => ?_)
              obtain ⟨hm4314, h⟩ := hq
              have h := h hm4314
              have hm := hp_mono.tr hm hm4314
              have ms2 := hp_mono.tr ms2 hm4314
              refine hx_putIN E hR in_X9 tyX9 tyX9_ok nmX9 (hp_mono.c hm4314 (hp_mono.c hm4311 (hp_mono.c hm4308 hc4306))) rfl 3 (Nat.le_of_ble_eq_true rfl) rfl q570 (fun _ h => h) rfl (Or.inl rfl) dX2_whom_103 (rfl : 103 + 3 = 106) (fun S4315 H locs e4317 hm4316 hR => ?_)
              have h := h S4315 e4317
              have hm := hp_mono.tr hm hm4316
              have ms2 := hp_mono.tr ms2 hm4316
              refine hp_goto E (tgt := 178) dX2_whom_106 (by decide) ?_
              exact b178 _ _ _ _ _ h (lv_sub hl [2, 3, 0] rfl) hR hm ms2
            · have h := h.2 hb
              refine hp_iload_n E hl 3 rfl 4 rfl dX2_whom_109 (rfl : 109 + 1 = 110) ?_
              refine hp_bipush E (10 : Int32) (by decide) dX2_whom_110 (rfl : 110 + 2 = 112) ?_
              refine hp_icmp_ne E dX2_whom_112 (rfl : 112 + 3 = 115) (tgt := 149) (by decide) (fun hb => ?_) (fun hb => ?_)
              · have h := h.1 hb
                refine hp_aload_n E hl 1 rfl 3 rfl dX2_whom_115 (rfl : 115 + 1 = 116) ?_
                refine hp_aload_n E hl 0 rfl 2 rfl dX2_whom_116 (rfl : 116 + 1 = 117) ?_
                refine hp_iconst E (0 : Int32) (by decide) dX2_whom_117 (rfl : 117 + 1 = 118) ?_
                refine hp_bipush E (79 : Int32) (by decide) dX2_whom_118 (rfl : 118 + 2 = 120) ?_
                have h : wp_X2_number o (0 : Int32) (79 : Int32) S4301 _ _ := h
                refine hp_xi E (hp_rVX E hR hl (m_X2_number G _ _ _ _ _ _ (hp_mono.c hm hc0) h) (hp_mono.c hm hc0) (ci := 1) rfl rfl q552 q554 qs8 q74 q555 nf_X2_number ⟨Nat.le_of_ble_eq_true rfl, Nat.le_of_ble_eq_true rfl⟩ (rest := [hp_v B a1]) rfl (Nat.le_of_ble_eq_true rfl) dX2_whom_120 ⟨Nat.le_of_ble_eq_true rfl, Nat.le_of_ble_eq_true rfl⟩) hR hex (fun n S' hq => ⟨hp_mono.tr hm hq.1, hq.2 hq.1⟩) (Nat.le_of_ble_eq_true rfl) (Nat.le_of_ble_eq_true rfl) (rfl : 120 + 3 = 123) (fun z4318 S4319 H locs hq hR => ?_)
                obtain ⟨hm4320, h⟩ := hq
                have h := h hm4320
                have hm := hp_mono.tr hm hm4320
                have ms2 := hp_mono.tr ms2 hm4320
                obtain ⟨hc4321, h⟩ := h
                refine hx_putIN E hR in_X9 tyX9 tyX9_ok nmX9 hc4321 rfl 5 (Nat.le_of_ble_eq_true rfl) rfl q574 (fun _ h => h) rfl (Or.inl rfl) dX2_whom_123 (rfl : 123 + 3 = 126) (fun S4322 H locs e4324 hm4323 hR => ?_)
                have h := h S4322 e4324
                have hm := hp_mono.tr hm hm4323
                have ms2 := hp_mono.tr ms2 hm4323
                refine hp_aload_n E hl 0 rfl 2 rfl dX2_whom_126 (rfl : 126 + 1 = 127) ?_
                refine hp_bipush E (13 : Int32) (by decide) dX2_whom_127 (rfl : 127 + 2 = 129) ?_
                have h : wp_X2_must o (13 : Int32) S4322 _ _ := h
                refine hp_xv E (hp_rVX E hR hl (m_X2_must G _ _ _ _ _ (hp_mono.c hm hc0) h) (hp_mono.c hm hc0) (ci := 1) rfl rfl q600 q602 qs10 q74 q603 nf_X2_must ⟨Nat.le_of_ble_eq_true rfl, Nat.le_of_ble_eq_true rfl⟩ (rest := []) rfl (Nat.le_of_ble_eq_true rfl) dX2_whom_129 ⟨Nat.le_of_ble_eq_true rfl, Nat.le_of_ble_eq_true rfl⟩) hR hex (fun n S' hq => ⟨hp_mono.tr hm hq.1, hq.2 hq.1⟩) (Nat.le_of_ble_eq_true rfl) (Nat.le_of_ble_eq_true rfl) (rfl : 129 + 3 = 132) (fun S4325 H locs hq hR => ?_)
                obtain ⟨hm4326, h⟩ := hq
                have h := h hm4326
                have hm := hp_mono.tr hm hm4326
                have ms2 := hp_mono.tr ms2 hm4326
                refine hp_aload_n E hl 1 rfl 3 rfl dX2_whom_132 (rfl : 132 + 1 = 133) ?_
                refine hp_aload_n E hl 0 rfl 2 rfl dX2_whom_133 (rfl : 133 + 1 = 134) ?_
                refine hp_aload_n E hl 1 rfl 3 rfl dX2_whom_134 (rfl : 134 + 1 = 135) ?_
                refine hp_getIN E hR in_X9 (hp_mono.c hm4326 (hp_mono.c hm4323 hc4321)) rfl 5 (Nat.le_of_ble_eq_true rfl) rfl q574 (fun _ h => h) dX2_whom_135 (rfl : 135 + 3 = 138) ?_
                refine hp_bipush E (79 : Int32) (by decide) dX2_whom_138 (rfl : 138 + 2 = 140) ?_
                have h : wp_X2_number o (st_I S4325 a1 5) (79 : Int32) S4325 _ _ := h
                refine hp_xi E (hp_rVX E hR hl (m_X2_number G _ _ _ _ _ _ (hp_mono.c hm hc0) h) (hp_mono.c hm hc0) (ci := 1) rfl rfl q552 q554 qs8 q74 q555 nf_X2_number ⟨Nat.le_of_ble_eq_true rfl, Nat.le_of_ble_eq_true rfl⟩ (rest := [hp_v B a1]) rfl (Nat.le_of_ble_eq_true rfl) dX2_whom_140 ⟨Nat.le_of_ble_eq_true rfl, Nat.le_of_ble_eq_true rfl⟩) hR hex (fun n S' hq => ⟨hp_mono.tr hm hq.1, hq.2 hq.1⟩) (Nat.le_of_ble_eq_true rfl) (Nat.le_of_ble_eq_true rfl) (rfl : 140 + 3 = 143) (fun z4327 S4328 H locs hq hR => ?_)
                obtain ⟨hm4329, h⟩ := hq
                have h := h hm4329
                have hm := hp_mono.tr hm hm4329
                have ms2 := hp_mono.tr ms2 hm4329
                refine hx_putIN E hR in_X9 tyX9 tyX9_ok nmX9 (hp_mono.c hm4329 (hp_mono.c hm4326 (hp_mono.c hm4323 hc4321))) rfl 6 (Nat.le_of_ble_eq_true rfl) rfl q576 (fun _ h => h) rfl (Or.inl rfl) dX2_whom_143 (rfl : 143 + 3 = 146) (fun S4330 H locs e4332 hm4331 hR => ?_)
                have h := h S4330 e4332
                have hm := hp_mono.tr hm hm4331
                have ms2 := hp_mono.tr ms2 hm4331
                refine hp_goto E (tgt := 178) dX2_whom_146 (by decide) ?_
                exact b178 _ _ _ _ _ h (lv_sub hl [2, 3, 0] rfl) hR hm ms2
              · have h := h.2 hb
                refine hp_iload_n E hl 3 rfl 4 rfl dX2_whom_149 (rfl : 149 + 1 = 150) ?_
                refine hp_bipush E (9 : Int32) (by decide) dX2_whom_150 (rfl : 150 + 2 = 152) ?_
                refine hp_icmp_ne E dX2_whom_152 (rfl : 152 + 3 = 155) (tgt := 163) (by decide) (fun hb => ?_) (fun hb => ?_)
                · have h := h.1 hb
                  refine hp_aload_n E hl 0 rfl 2 rfl dX2_whom_155 (rfl : 155 + 1 = 156) ?_
                  refine hp_aload_n E hl 1 rfl 3 rfl dX2_whom_156 (rfl : 156 + 1 = 157) ?_
                  have h : wp_X2_classes o a1 S4301 _ _ := h
                  refine hp_xv E (hp_rVX E hR hl (m_X2_classes G _ _ _ _ _ (hp_mono.c hm hc0) h) (hp_mono.c hm hc0) (ci := 1) rfl rfl q608 q610 qs12 q74 q611 nf_X2_classes ⟨Nat.le_of_ble_eq_true rfl, Nat.le_of_ble_eq_true rfl⟩ (rest := []) rfl (Nat.le_of_ble_eq_true rfl) dX2_whom_157 ⟨Nat.le_of_ble_eq_true rfl, Nat.le_of_ble_eq_true rfl⟩) hR hex (fun n S' hq => ⟨hp_mono.tr hm hq.1, hq.2 hq.1⟩) (Nat.le_of_ble_eq_true rfl) (Nat.le_of_ble_eq_true rfl) (rfl : 157 + 3 = 160) (fun S4333 H locs hq hR => ?_)
                  obtain ⟨hm4334, h⟩ := hq
                  have h := h hm4334
                  have hm := hp_mono.tr hm hm4334
                  have ms2 := hp_mono.tr ms2 hm4334
                  refine hp_goto E (tgt := 178) dX2_whom_160 (by decide) ?_
                  exact b178 _ _ _ _ _ h (lv_sub hl [2, 3, 0] rfl) hR hm ms2
                · have h := h.2 hb
                  refine hp_aload_n E hl 1 rfl 3 rfl dX2_whom_163 (rfl : 163 + 1 = 164) ?_
                  refine hp_iload_n E hl 3 rfl 4 rfl dX2_whom_164 (rfl : 164 + 1 = 165) ?_
                  refine hp_bipush E (11 : Int32) (by decide) dX2_whom_165 (rfl : 165 + 2 = 167) ?_
                  refine hp_icmp_ne E dX2_whom_167 (rfl : 167 + 3 = 170) (tgt := 174) (by decide) (fun hb => ?_) (fun hb => ?_)
                  · have h := h.1 hb
                    refine hp_iconst E (2 : Int32) (by decide) dX2_whom_170 (rfl : 170 + 1 = 171) ?_
                    refine hp_goto E (tgt := 175) dX2_whom_171 (by decide) ?_
                    exact b175 _ _ _ _ _ _ _ h (lv_sub hl [2, 3, 0] rfl) hR hm ms2
                  · have h := h.2 hb
                    refine hp_iconst E (1 : Int32) (by decide) dX2_whom_174 (rfl : 174 + 1 = 175) ?_
                    exact b175 _ _ _ _ _ _ _ h (lv_sub hl [2, 3, 0] rfl) hR hm ms2
          · have h := h.2 hb
            refine hp_aload_n E hl 0 rfl 1 rfl dX2_whom_52 (rfl : 52 + 1 = 53) ?_
            refine hp_iconst E (3 : Int32) (by decide) dX2_whom_53 (rfl : 53 + 1 = 54) ?_
            refine hp_fa (hp_rV E hR hl (m_X2_wrong G _ _ _ _ (hp_mono.c hm hc0) h) (hp_mono.c hm hc0) (ci := 1) rfl rfl q470 q472 qs5 q74 q473 nf_X2_wrong ⟨Nat.le_of_ble_eq_true rfl, Nat.le_of_ble_eq_true rfl⟩ (rest := []) rfl (Nat.le_of_ble_eq_true rfl) dX2_whom_54 ⟨Nat.le_of_ble_eq_true rfl, Nat.le_of_ble_eq_true rfl⟩) hR (rfl : 54 + 3 = 57) (fun z4335 S4336 H locs hq hR => ?_)
            obtain ⟨hm4337, h⟩ := hq
            have h := h hm4337
            have hm := hp_mono.tr hm hm4337
            have ms2 := hp_mono.tr ms2 hm4337
            obtain ⟨hc4338, h⟩ := h
            exact hp_throw E hR hex hc4338 ⟨hm, h⟩ (Nat.le_of_ble_eq_true rfl) (Nat.le_of_ble_eq_true rfl) dX2_whom_57
        unfold wb_X2_whom_2 at h
        refine hp_aload_n E hl 0 rfl 0 rfl dX2_whom_2 (rfl : 2 + 1 = 3) ?_
        refine hp_getI E hR in_X2 (hp_mono.c hm hc0) rfl 3 (Nat.le_of_ble_eq_true rfl) rfl q126 (fun _ h => h) dX2_whom_3 (rfl : 3 + 3 = 6) ?_
        refine hp_if_ne E dX2_whom_6 (rfl : 6 + 3 = 9) (tgt := 181) (by decide) (fun hb => ?_) (fun hb => ?_)
        · have h := h.1 hb
          refine hp_aload_n E hl 0 rfl 0 rfl dX2_whom_9 (rfl : 9 + 1 = 10) ?_
          refine hp_getI E hR in_X2 (hp_mono.c hm hc0) rfl 4 (Nat.le_of_ble_eq_true rfl) rfl q127 (fun _ h => h) dX2_whom_10 (rfl : 10 + 3 = 13) ?_
          refine hp_bipush E (8 : Int32) (by decide) dX2_whom_13 (rfl : 13 + 2 = 15) ?_
          refine hp_bipush E (12 : Int32) (by decide) dX2_whom_15 (rfl : 15 + 2 = 17) ?_
          refine hp_fi (hp_rSN E hR hl (m_X1_in G _ _ _ _ _ h) q411 q395 q73 q396 nf_X1_in ⟨Nat.le_of_ble_eq_true rfl, Nat.le_of_ble_eq_true rfl⟩ (rest := []) rfl (Nat.le_of_ble_eq_true rfl) dX2_whom_17 ⟨Nat.le_of_ble_eq_true rfl, Nat.le_of_ble_eq_true rfl⟩) hR (rfl : 17 + 3 = 20) (fun z201 Sx H locs hq hR => ?_)
          obtain ⟨hSx, h⟩ := hq
          rw [hSx] at hR
          refine hp_if_eq E dX2_whom_20 (rfl : 20 + 3 = 23) (tgt := 181) (by decide) (fun hb => ?_) (fun hb => ?_)
          · have h := h.1 hb
            exact b181 _ _ _ _ h (lv_sub hl [] rfl) hR hm
          · have h := h.2 hb
            refine hp_aload_n E hl 0 rfl 0 rfl dX2_whom_23 (rfl : 23 + 1 = 24) ?_
            refine hp_getI E hR in_X2 (hp_mono.c hm hc0) rfl 4 (Nat.le_of_ble_eq_true rfl) rfl q127 (fun _ h => h) dX2_whom_24 (rfl : 24 + 3 = 27) ?_
            refine hp_istore_n E hl 3 rfl (lv' := [(0, hp_v B o), (1, hp_v B a1), (2, .int v2)]) dX2_whom_27 (rfl : 27 + 1 = 28) (by decide) rfl (fun ls hl => ?_)
            refine hp_iload_n E hl 3 rfl 0 rfl dX2_whom_28 (rfl : 28 + 1 = 29) ?_
            refine hp_bipush E (12 : Int32) (by decide) dX2_whom_29 (rfl : 29 + 2 = 31) ?_
            refine hp_icmp_ne E dX2_whom_31 (rfl : 31 + 3 = 34) (tgt := 40) (by decide) (fun hb => ?_) (fun hb => ?_)
            · have h := h.1 hb
              refine hp_sipush E (2048 : Int32) (by decide) dX2_whom_34 (rfl : 34 + 3 = 37) ?_
              refine hp_goto E (tgt := 43) dX2_whom_37 (by decide) ?_
              exact b43 _ _ _ _ _ _ _ h (lv_sub hl [1, 2, 3, 0] rfl) hR hm ms2
            · have h := h.2 hb
              refine hp_iconst E (1 : Int32) (by decide) dX2_whom_40 (rfl : 40 + 1 = 41) ?_
              refine hp_iload_n E hl 3 rfl 0 rfl dX2_whom_41 (rfl : 41 + 1 = 42) ?_
              refine hp_ishl E dX2_whom_42 (rfl : 42 + 1 = 43) ?_
              exact b43 _ _ _ _ _ _ _ h (lv_sub hl [1, 2, 3, 0] rfl) hR hm ms2
        · have h := h.2 hb
          exact b181 _ _ _ _ h (lv_sub hl [] rfl) hR hm
    exact key2 (μ2 v2 Sa2 + 1) v2 _ H locs ls (Nat.lt_succ_self _) hI hl hR hp_mono.rf
  unfold wp_X2_whom at h
  refine hp_iconst E (0 : Int32) (by decide) dX2_whom_0 (rfl : 0 + 1 = 1) ?_
  refine hp_istore_n E hl 2 rfl (lv' := [(0, hp_v B o), (1, hp_v B a1)]) dX2_whom_1 (rfl : 1 + 1 = 2) (by decide) (by simp [hp_vc, hp_ci, hp_cj]) (fun ls hl => ?_)
  exact b2 _ _ _ _ _ h (lv_sub hl [1, 2, 0] rfl) hR hm
def wb_X2_line_16 (o : Nat) (S : hp_St) (Q : hp_St → Prop) (X : Nat → hp_St → Prop) : Prop := wp_X2_wrong o (1 : Int32) S (fun z1601 S1602 => hp_mono S S1602 → (st_C S1602 z1601 = 8) ∧ X z1601 S1602)
def wb_X2_line_165 (o : Nat) (S : hp_St) (Q : hp_St → Prop) (X : Nat → hp_St → Prop) : Prop := ((((st_I S o 3) = (2 : Int32)) → wp_X2_next o S (fun S16501 => hp_mono S S16501 → (st_C S16501 (st_R S16501 o 6) = 3) ∧ (∀ S16504, S16504 = st_pI S16501 (st_R S16501 o 6) 5 ((st_I S16501 (st_R S16501 o 6) 5) + (1 : Int32)) → Q S16504))) ∧ ((¬ ((st_I S o 3) = (2 : Int32))) → wp_X2_wrong o (1 : Int32) S (fun z16507 S16508 => hp_mono S S16508 → (st_C S16508 z16507 = 8) ∧ X z16507 S16508)))
def wb_X2_line_148 (o : Nat) (r2 : Nat) (S : hp_St) (Q : hp_St → Prop) (X : Nat → hp_St → Prop) : Prop := (fun kq => wp_X2_whom o r2 S kq (fun n S' => hp_mono S S' → X n S')) (fun S14801 => hp_mono S S14801 → (st_C S14801 (st_R S14801 o 6) = 3) ∧ (st_C S14801 (st_R S14801 (st_R S14801 o 6) 0) = 17) ∧ wp_J2_add (st_R S14801 (st_R S14801 o 6) 0) r2 S14801 (fun z14805 S14806 => hp_mono S14801 S14806 → wb_X2_line_165 o S14806 Q X))
def wb_X2_line_131 (o : Nat) (v1 : Int32) (r2 : Nat) (S : hp_St) (Q : hp_St → Prop) (X : Nat → hp_St → Prop) : Prop := (((v1 = (3 : Int32)) → (fun kq => wp_X2_number o (0 : Int32) (200 : Int32) S kq (fun n S' => hp_mono S S' → X n S')) (fun z13101 S13102 => hp_mono S S13102 → (st_C S13102 r2 = 9) ∧ (∀ S13105, S13105 = st_pI S13102 r2 1 z13101 → wb_X2_line_148 o r2 S13105 Q X))) ∧ ((¬ (v1 = (3 : Int32))) → wb_X2_line_148 o r2 S Q X))
def wb_X2_line_76 (o : Nat) (v1 : Int32) (S : hp_St) (Q : hp_St → Prop) (X : Nat → hp_St → Prop) : Prop := wp_X2_next o S (fun S7601 => hp_mono S S7601 → (((v1 ≤ (3 : Int32)) → (∀ n7606 S7603, n7606 = st_Z S7601 → S7603 = st_nA S7601 9 0 → hp_fr S7601 n7606 → wp_X9_init n7606 v1 S7603 (fun S7610 => hp_mono S7603 S7610 → (((v1 = (2 : Int32)) → (fun kq => wp_X2_number o (1 : Int32) (9999 : Int32) S7610 kq (fun n S' => hp_mono S7610 S' → X n S')) (fun z7612 S7613 => hp_mono S7610 S7613 → (∀ S7615, S7615 = st_pI S7613 n7606 1 z7612 → wb_X2_line_131 o v1 n7606 S7615 Q X))) ∧ ((¬ (v1 = (2 : Int32))) → wb_X2_line_131 o v1 n7606 S7610 Q X))))) ∧ ((¬ (v1 ≤ (3 : Int32))) → (∀ S7618, S7618 = st_pI S7601 o 5 ((st_I S7601 o 5) ||| ((1 : Int32) <<< (v1 &&& 31))) → (fun kq => wp_X2_setting o v1 S7618 kq (fun n S' => hp_mono S7618 S' → X n S')) (fun S7621 => hp_mono S7618 S7621 → wb_X2_line_165 o S7621 Q X)))))
def wb_X2_line_53 (o : Nat) (v1 : Int32) (S : hp_St) (Q : hp_St → Prop) (X : Nat → hp_St → Prop) : Prop := (((v1 ≤ (3 : Int32)) → wb_X2_line_76 o v1 S Q X) ∧ ((¬ (v1 ≤ (3 : Int32))) → ((((((st_I S o 5) >>> (v1 &&& 31)) &&& (1 : Int32)) = (1 : Int32)) → wp_X2_wrong o (3 : Int32) S (fun z5301 S5302 => hp_mono S S5302 → (st_C S5302 z5301 = 8) ∧ X z5301 S5302)) ∧ ((¬ ((((st_I S o 5) >>> (v1 &&& 31)) &&& (1 : Int32)) = (1 : Int32))) → wb_X2_line_76 o v1 S Q X))))
def wp_X2_line (o : Nat) (S : hp_St) (Q : hp_St → Prop) (X : Nat → hp_St → Prop) : Prop := ((((st_I S o 3) = 0) → ((((st_I S o 4) ≤ (7 : Int32)) → ((((st_I S o 4) ≤ (3 : Int32)) → (st_C S (st_R S o 6) = 3) ∧ (st_C S (st_R S (st_R S o 6) 0) = 17) ∧ wp_J2_size (st_R S (st_R S o 6) 0) S (fun z3 => (((z3 = (24 : Int32)) → wp_X2_wrong o (2 : Int32) S (fun z4 S5 => hp_mono S S5 → (st_C S5 z4 = 8) ∧ X z4 S5)) ∧ ((¬ (z3 = (24 : Int32))) → wb_X2_line_53 o (st_I S o 4) S Q X)))) ∧ ((¬ ((st_I S o 4) ≤ (3 : Int32))) → wb_X2_line_53 o (st_I S o 4) S Q X))) ∧ ((¬ ((st_I S o 4) ≤ (7 : Int32))) → wb_X2_line_16 o S Q X))) ∧ ((¬ ((st_I S o 3) = 0)) → wb_X2_line_16 o S Q X))
theorem nf_X2_line : hp_nf yX2_line 0 = true := by decide +kernel
set_option maxHeartbeats 4000000 in
theorem m_X2_line {l : Launch} {B : Nat} {D : va_G} {s0 : State} {b0 : Nat} (G : hp_G l B D s0 b0) (o : Nat) (Si : hp_St) (Q : hp_St → Prop) (X : Nat → hp_St → Prop) (hc0 : st_C Si o = 2) (h : wp_X2_line o Si Q X) : hp_MX l B D s0 yX2_line cX2_line 3 none 11 704 3 80 [hp_v B o] Si (hp_Qv B D s0 (fun S' => hp_mono Si S' ∧ Q S')) (fun n S' => hp_mono Si S' ∧ X n S') := by
  refine hp_startX G (by decide +kernel) rfl rfl (lv := [(0, hp_v B o)]) (by simp [lg_sl, hp_vc, hp_ci, hp_cj]) (by simp [lv_args, hp_vc, hp_ci, hp_cj]) ?_
  intro p e s m args below meth c E hex ls hl hR
  have hm : hp_mono Si Si := hp_mono.rf
  generalize hH : s.heap = H at hR ⊢
  generalize hLo : ([] : List Loc) = locs at hR ⊢
  have b16 : ∀ (S : hp_St) (H : Heap) (locs : List Loc) (ls : Array Slot), wb_X2_line_16 o S Q X → lv_has ls 3 [(0, hp_v B o)] → hp_S B D s0 S H locs → hp_mono Si S → W p l e ({ frames := 11, cells := 3, slots := 80, locals := 704 } : Room) s m args below meth c H locs 0 0 (vx_MQ below (hp_Qv B D s0 (fun S' => hp_mono Si S' ∧ Q S')) (hp_XC B D s0 (fun n S' => hp_mono Si S' ∧ X n S')) args s 3 80 (fun q => B < q)) (F0 m 16 ls []) := by
    intro S H locs ls h hl hR hm
    unfold wb_X2_line_16 at h
    refine hp_aload_n E hl 0 rfl 0 rfl dX2_line_16 (rfl : 16 + 1 = 17) ?_
    refine hp_iconst E (1 : Int32) (by decide) dX2_line_17 (rfl : 17 + 1 = 18) ?_
    refine hp_fa (hp_rV E hR hl (m_X2_wrong G _ _ _ _ (hp_mono.c hm hc0) h) (hp_mono.c hm hc0) (ci := 1) rfl rfl q470 q472 qs5 q74 q473 nf_X2_wrong ⟨Nat.le_of_ble_eq_true rfl, Nat.le_of_ble_eq_true rfl⟩ (rest := []) rfl (Nat.le_of_ble_eq_true rfl) dX2_line_18 ⟨Nat.le_of_ble_eq_true rfl, Nat.le_of_ble_eq_true rfl⟩) hR (rfl : 18 + 3 = 21) (fun z1601 S1602 H locs hq hR => ?_)
    obtain ⟨hm1603, h⟩ := hq
    have h := h hm1603
    have hm := hp_mono.tr hm hm1603
    obtain ⟨hc1604, h⟩ := h
    exact hp_throw E hR hex hc1604 ⟨hm, h⟩ (Nat.le_of_ble_eq_true rfl) (Nat.le_of_ble_eq_true rfl) dX2_line_21
  have b165 : ∀ (S : hp_St) (H : Heap) (locs : List Loc) (ls : Array Slot), wb_X2_line_165 o S Q X → lv_has ls 3 [(0, hp_v B o)] → hp_S B D s0 S H locs → hp_mono Si S → W p l e ({ frames := 11, cells := 3, slots := 80, locals := 704 } : Room) s m args below meth c H locs 2 72 (vx_MQ below (hp_Qv B D s0 (fun S' => hp_mono Si S' ∧ Q S')) (hp_XC B D s0 (fun n S' => hp_mono Si S' ∧ X n S')) args s 3 80 (fun q => B < q)) (F0 m 165 ls []) := by
    intro S H locs ls h hl hR hm
    unfold wb_X2_line_165 at h
    refine hp_aload_n E hl 0 rfl 0 rfl dX2_line_165 (rfl : 165 + 1 = 166) ?_
    refine hp_getI E hR in_X2 (hp_mono.c hm hc0) rfl 3 (Nat.le_of_ble_eq_true rfl) rfl q126 (fun _ h => h) dX2_line_166 (rfl : 166 + 3 = 169) ?_
    refine hp_iconst E (2 : Int32) (by decide) dX2_line_169 (rfl : 169 + 1 = 170) ?_
    refine hp_icmp_eq E dX2_line_170 (rfl : 170 + 3 = 173) (tgt := 179) (by decide) (fun hb => ?_) (fun hb => ?_)
    · have h := h.1 hb
      refine hp_aload_n E hl 0 rfl 0 rfl dX2_line_179 (rfl : 179 + 1 = 180) ?_
      refine hp_fv (hp_rV E hR hl (m_X2_next G _ _ _ (hp_mono.c hm hc0) h) (hp_mono.c hm hc0) (ci := 1) rfl rfl q403 q405 qs1 q74 q406 nf_X2_next ⟨Nat.le_of_ble_eq_true rfl, Nat.le_of_ble_eq_true rfl⟩ (rest := []) rfl (Nat.le_of_ble_eq_true rfl) dX2_line_180 ⟨Nat.le_of_ble_eq_true rfl, Nat.le_of_ble_eq_true rfl⟩) hR (rfl : 180 + 3 = 183) (fun S16501 H locs hq hR => ?_)
      obtain ⟨hm16502, h⟩ := hq
      have h := h hm16502
      have hm := hp_mono.tr hm hm16502
      refine hp_aload_n E hl 0 rfl 0 rfl dX2_line_183 (rfl : 183 + 1 = 184) ?_
      refine hp_getR E hR in_X2 (hp_mono.c hm hc0) rfl 6 (Nat.le_of_ble_eq_true rfl) rfl q129 (fun _ h => h) dX2_line_184 (rfl : 184 + 3 = 187) ?_
      refine hp_dup E hp_vc dX2_line_187 (rfl : 187 + 1 = 188) ?_
      obtain ⟨hc16503, h⟩ := h
      refine hp_getIN E hR in_X3 hc16503 rfl 5 (Nat.le_of_ble_eq_true rfl) rfl q199 (fun _ h => h) dX2_line_188 (rfl : 188 + 3 = 191) ?_
      refine hp_iconst E (1 : Int32) (by decide) dX2_line_191 (rfl : 191 + 1 = 192) ?_
      refine hp_iadd E dX2_line_192 (rfl : 192 + 1 = 193) ?_
      refine hx_putIN E hR in_X3 tyX3 tyX3_ok nmX3 hc16503 rfl 5 (Nat.le_of_ble_eq_true rfl) rfl q199 (fun _ h => h) rfl (Or.inl rfl) dX2_line_193 (rfl : 193 + 3 = 196) (fun S16504 H locs e16506 hm16505 hR => ?_)
      have h := h S16504 e16506
      have hm := hp_mono.tr hm hm16505
      exact vx_ret (hp_vret E hR ⟨hm, h⟩ (Nat.le_of_ble_eq_true rfl) (Nat.le_of_ble_eq_true rfl) dX2_line_196)
    · have h := h.2 hb
      refine hp_aload_n E hl 0 rfl 0 rfl dX2_line_173 (rfl : 173 + 1 = 174) ?_
      refine hp_iconst E (1 : Int32) (by decide) dX2_line_174 (rfl : 174 + 1 = 175) ?_
      refine hp_fa (hp_rV E hR hl (m_X2_wrong G _ _ _ _ (hp_mono.c hm hc0) h) (hp_mono.c hm hc0) (ci := 1) rfl rfl q470 q472 qs5 q74 q473 nf_X2_wrong ⟨Nat.le_of_ble_eq_true rfl, Nat.le_of_ble_eq_true rfl⟩ (rest := []) rfl (Nat.le_of_ble_eq_true rfl) dX2_line_175 ⟨Nat.le_of_ble_eq_true rfl, Nat.le_of_ble_eq_true rfl⟩) hR (rfl : 175 + 3 = 178) (fun z16507 S16508 H locs hq hR => ?_)
      obtain ⟨hm16509, h⟩ := hq
      have h := h hm16509
      have hm := hp_mono.tr hm hm16509
      obtain ⟨hc16510, h⟩ := h
      exact hp_throw E hR hex hc16510 ⟨hm, h⟩ (Nat.le_of_ble_eq_true rfl) (Nat.le_of_ble_eq_true rfl) dX2_line_178
  have b148 : ∀ (r2 : Nat) (S : hp_St) (H : Heap) (locs : List Loc) (ls : Array Slot), wb_X2_line_148 o r2 S Q X → lv_has ls 3 [(0, hp_v B o), (2, hp_v B r2)] → hp_S B D s0 S H locs → hp_mono Si S → W p l e ({ frames := 11, cells := 3, slots := 80, locals := 704 } : Room) s m args below meth c H locs 1 8 (vx_MQ below (hp_Qv B D s0 (fun S' => hp_mono Si S' ∧ Q S')) (hp_XC B D s0 (fun n S' => hp_mono Si S' ∧ X n S')) args s 3 80 (fun q => B < q)) (F0 m 148 ls []) := by
    intro r2 S H locs ls h hl hR hm
    unfold wb_X2_line_148 at h
    refine hp_aload_n E hl 0 rfl 0 rfl dX2_line_148 (rfl : 148 + 1 = 149) ?_
    refine hp_aload_n E hl 2 rfl 1 rfl dX2_line_149 (rfl : 149 + 1 = 150) ?_
    have h : wp_X2_whom o r2 S _ _ := h
    refine hp_xv E (hp_rVX E hR hl (m_X2_whom G _ _ _ _ _ (hp_mono.c hm hc0) h) (hp_mono.c hm hc0) (ci := 1) rfl rfl q596 q598 qs9 q74 q599 nf_X2_whom ⟨Nat.le_of_ble_eq_true rfl, Nat.le_of_ble_eq_true rfl⟩ (rest := []) rfl (Nat.le_of_ble_eq_true rfl) dX2_line_150 ⟨Nat.le_of_ble_eq_true rfl, Nat.le_of_ble_eq_true rfl⟩) hR hex (fun n S' hq => ⟨hp_mono.tr hm hq.1, hq.2 hq.1⟩) (Nat.le_of_ble_eq_true rfl) (Nat.le_of_ble_eq_true rfl) (rfl : 150 + 3 = 153) (fun S14801 H locs hq hR => ?_)
    obtain ⟨hm14802, h⟩ := hq
    have h := h hm14802
    have hm := hp_mono.tr hm hm14802
    refine hp_aload_n E hl 0 rfl 0 rfl dX2_line_153 (rfl : 153 + 1 = 154) ?_
    refine hp_getR E hR in_X2 (hp_mono.c hm hc0) rfl 6 (Nat.le_of_ble_eq_true rfl) rfl q129 (fun _ h => h) dX2_line_154 (rfl : 154 + 3 = 157) ?_
    obtain ⟨hc14803, h⟩ := h
    refine hp_getRN E hR in_X3 hc14803 rfl 0 (Nat.le_of_ble_eq_true rfl) rfl q184 (fun _ h => h) dX2_line_157 (rfl : 157 + 3 = 160) ?_
    refine hp_aload_n E hl 2 rfl 1 rfl dX2_line_160 (rfl : 160 + 1 = 161) ?_
    obtain ⟨hc14804, h⟩ := h
    refine hp_fi (hp_rV E hR hl (m_J2_add G _ _ _ _ hc14804 h) hc14804 (ci := 16) rfl rfl q612 q613 q614 q78 q615 nf_J2_add ⟨Nat.le_of_ble_eq_true rfl, Nat.le_of_ble_eq_true rfl⟩ (rest := []) rfl (Nat.le_of_ble_eq_true rfl) dX2_line_161 ⟨Nat.le_of_ble_eq_true rfl, Nat.le_of_ble_eq_true rfl⟩) hR (rfl : 161 + 3 = 164) (fun z14805 S14806 H locs hq hR => ?_)
    obtain ⟨hm14807, h⟩ := hq
    have h := h hm14807
    have hm := hp_mono.tr hm hm14807
    refine hp_pop E rfl dX2_line_164 (rfl : 164 + 1 = 165) ?_
    exact b165 _ _ _ _ h (lv_sub hl [0] rfl) hR hm
  have b131 : ∀ (v1 : Int32) (r2 : Nat) (S : hp_St) (H : Heap) (locs : List Loc) (ls : Array Slot), wb_X2_line_131 o v1 r2 S Q X → lv_has ls 3 [(0, hp_v B o), (1, .int v1), (2, hp_v B r2)] → hp_S B D s0 S H locs → hp_mono Si S → W p l e ({ frames := 11, cells := 3, slots := 80, locals := 704 } : Room) s m args below meth c H locs 1 8 (vx_MQ below (hp_Qv B D s0 (fun S' => hp_mono Si S' ∧ Q S')) (hp_XC B D s0 (fun n S' => hp_mono Si S' ∧ X n S')) args s 3 80 (fun q => B < q)) (F0 m 131 ls []) := by
    intro v1 r2 S H locs ls h hl hR hm
    unfold wb_X2_line_131 at h
    refine hp_iload_n E hl 1 rfl 1 rfl dX2_line_131 (rfl : 131 + 1 = 132) ?_
    refine hp_iconst E (3 : Int32) (by decide) dX2_line_132 (rfl : 132 + 1 = 133) ?_
    refine hp_icmp_ne E dX2_line_133 (rfl : 133 + 3 = 136) (tgt := 148) (by decide) (fun hb => ?_) (fun hb => ?_)
    · have h := h.1 hb
      refine hp_aload_n E hl 2 rfl 2 rfl dX2_line_136 (rfl : 136 + 1 = 137) ?_
      refine hp_aload_n E hl 0 rfl 0 rfl dX2_line_137 (rfl : 137 + 1 = 138) ?_
      refine hp_iconst E (0 : Int32) (by decide) dX2_line_138 (rfl : 138 + 1 = 139) ?_
      refine hp_sipush E (200 : Int32) (by decide) dX2_line_139 (rfl : 139 + 3 = 142) ?_
      have h : wp_X2_number o (0 : Int32) (200 : Int32) S _ _ := h
      refine hp_xi E (hp_rVX E hR hl (m_X2_number G _ _ _ _ _ _ (hp_mono.c hm hc0) h) (hp_mono.c hm hc0) (ci := 1) rfl rfl q552 q554 qs8 q74 q555 nf_X2_number ⟨Nat.le_of_ble_eq_true rfl, Nat.le_of_ble_eq_true rfl⟩ (rest := [hp_v B r2]) rfl (Nat.le_of_ble_eq_true rfl) dX2_line_142 ⟨Nat.le_of_ble_eq_true rfl, Nat.le_of_ble_eq_true rfl⟩) hR hex (fun n S' hq => ⟨hp_mono.tr hm hq.1, hq.2 hq.1⟩) (Nat.le_of_ble_eq_true rfl) (Nat.le_of_ble_eq_true rfl) (rfl : 142 + 3 = 145) (fun z13101 S13102 H locs hq hR => ?_)
      obtain ⟨hm13103, h⟩ := hq
      have h := h hm13103
      have hm := hp_mono.tr hm hm13103
      obtain ⟨hc13104, h⟩ := h
      refine hx_putIN E hR in_X9 tyX9 tyX9_ok nmX9 hc13104 rfl 1 (Nat.le_of_ble_eq_true rfl) rfl q566 (fun _ h => h) rfl (Or.inl rfl) dX2_line_145 (rfl : 145 + 3 = 148) (fun S13105 H locs e13107 hm13106 hR => ?_)
      have h := h S13105 e13107
      have hm := hp_mono.tr hm hm13106
      exact b148 _ _ _ _ _ h (lv_sub hl [0, 2] rfl) hR hm
    · have h := h.2 hb
      exact b148 _ _ _ _ _ h (lv_sub hl [0, 2] rfl) hR hm
  have b76 : ∀ (v1 : Int32) (S : hp_St) (H : Heap) (locs : List Loc) (ls : Array Slot), wb_X2_line_76 o v1 S Q X → lv_has ls 3 [(0, hp_v B o), (1, .int v1)] → hp_S B D s0 S H locs → hp_mono Si S → W p l e ({ frames := 11, cells := 3, slots := 80, locals := 704 } : Room) s m args below meth c H locs 0 0 (vx_MQ below (hp_Qv B D s0 (fun S' => hp_mono Si S' ∧ Q S')) (hp_XC B D s0 (fun n S' => hp_mono Si S' ∧ X n S')) args s 3 80 (fun q => B < q)) (F0 m 76 ls []) := by
    intro v1 S H locs ls h hl hR hm
    unfold wb_X2_line_76 at h
    refine hp_aload_n E hl 0 rfl 0 rfl dX2_line_76 (rfl : 76 + 1 = 77) ?_
    refine hp_fv (hp_rV E hR hl (m_X2_next G _ _ _ (hp_mono.c hm hc0) h) (hp_mono.c hm hc0) (ci := 1) rfl rfl q403 q405 qs1 q74 q406 nf_X2_next ⟨Nat.le_of_ble_eq_true rfl, Nat.le_of_ble_eq_true rfl⟩ (rest := []) rfl (Nat.le_of_ble_eq_true rfl) dX2_line_77 ⟨Nat.le_of_ble_eq_true rfl, Nat.le_of_ble_eq_true rfl⟩) hR (rfl : 77 + 3 = 80) (fun S7601 H locs hq hR => ?_)
    obtain ⟨hm7602, h⟩ := hq
    have h := h hm7602
    have hm := hp_mono.tr hm hm7602
    refine hp_iload_n E hl 1 rfl 1 rfl dX2_line_80 (rfl : 80 + 1 = 81) ?_
    refine hp_iconst E (3 : Int32) (by decide) dX2_line_81 (rfl : 81 + 1 = 82) ?_
    refine hp_icmp_le E dX2_line_82 (rfl : 82 + 3 = 85) (tgt := 105) (by decide) (fun hb => ?_) (fun hb => ?_)
    · have h := h.1 hb
      refine hx_new E hR in_X9 tyX9 tyX9_ok (ci := 8) rfl hd_X9 q556 q557 q90 (Nat.le_of_ble_eq_true rfl) (Nat.le_of_ble_eq_true rfl) dX2_line_105 (rfl : 105 + 3 = 108) (fun n7606 S7603 H e7607 e7605 hf7608 hm7604 hc7609 hR => ?_)
      have h := h n7606 S7603 e7607 e7605 hf7608
      have hm := hp_mono.tr hm hm7604
      refine hp_dup E hp_vc dX2_line_108 (rfl : 108 + 1 = 109) ?_
      refine hp_iload_n E hl 1 rfl 1 rfl dX2_line_109 (rfl : 109 + 1 = 110) ?_
      refine hp_fv (hp_rI E hR hl (hp_ne hR hc7609) (m_X9_init G _ _ _ _ hc7609 h) rfl q558 q559 q90 q560 nf_X9_init ⟨Nat.le_of_ble_eq_true rfl, Nat.le_of_ble_eq_true rfl⟩ (rest := [hp_v B n7606]) rfl (Nat.le_of_ble_eq_true rfl) dX2_line_110 ⟨Nat.le_of_ble_eq_true rfl, Nat.le_of_ble_eq_true rfl⟩) hR (rfl : 110 + 3 = 113) (fun S7610 H locs hq hR => ?_)
      obtain ⟨hm7611, h⟩ := hq
      have h := h hm7611
      have hm := hp_mono.tr hm hm7611
      refine hp_astore_n E hl 2 rfl (lv' := [(0, hp_v B o), (1, .int v1)]) dX2_line_113 (rfl : 113 + 1 = 114) (by decide) rfl (fun ls hl => ?_)
      refine hp_iload_n E hl 1 rfl 2 rfl dX2_line_114 (rfl : 114 + 1 = 115) ?_
      refine hp_iconst E (2 : Int32) (by decide) dX2_line_115 (rfl : 115 + 1 = 116) ?_
      refine hp_icmp_ne E dX2_line_116 (rfl : 116 + 3 = 119) (tgt := 131) (by decide) (fun hb => ?_) (fun hb => ?_)
      · have h := h.1 hb
        refine hp_aload_n E hl 2 rfl 0 rfl dX2_line_119 (rfl : 119 + 1 = 120) ?_
        refine hp_aload_n E hl 0 rfl 1 rfl dX2_line_120 (rfl : 120 + 1 = 121) ?_
        refine hp_iconst E (1 : Int32) (by decide) dX2_line_121 (rfl : 121 + 1 = 122) ?_
        refine hp_sipush E (9999 : Int32) (by decide) dX2_line_122 (rfl : 122 + 3 = 125) ?_
        have h : wp_X2_number o (1 : Int32) (9999 : Int32) S7610 _ _ := h
        refine hp_xi E (hp_rVX E hR hl (m_X2_number G _ _ _ _ _ _ (hp_mono.c hm hc0) h) (hp_mono.c hm hc0) (ci := 1) rfl rfl q552 q554 qs8 q74 q555 nf_X2_number ⟨Nat.le_of_ble_eq_true rfl, Nat.le_of_ble_eq_true rfl⟩ (rest := [hp_v B n7606]) rfl (Nat.le_of_ble_eq_true rfl) dX2_line_125 ⟨Nat.le_of_ble_eq_true rfl, Nat.le_of_ble_eq_true rfl⟩) hR hex (fun n S' hq => ⟨hp_mono.tr hm hq.1, hq.2 hq.1⟩) (Nat.le_of_ble_eq_true rfl) (Nat.le_of_ble_eq_true rfl) (rfl : 125 + 3 = 128) (fun z7612 S7613 H locs hq hR => ?_)
        obtain ⟨hm7614, h⟩ := hq
        have h := h hm7614
        have hm := hp_mono.tr hm hm7614
        refine hx_putIN E hR in_X9 tyX9 tyX9_ok nmX9 (hp_mono.c hm7614 (hp_mono.c hm7611 hc7609)) rfl 1 (Nat.le_of_ble_eq_true rfl) rfl q566 (fun _ h => h) rfl (Or.inl rfl) dX2_line_128 (rfl : 128 + 3 = 131) (fun S7615 H locs e7617 hm7616 hR => ?_)
        have h := h S7615 e7617
        have hm := hp_mono.tr hm hm7616
        exact b131 _ _ _ _ _ _ h (lv_sub hl [1, 2, 0] rfl) hR hm
      · have h := h.2 hb
        exact b131 _ _ _ _ _ _ h (lv_sub hl [1, 2, 0] rfl) hR hm
    · have h := h.2 hb
      refine hp_aload_n E hl 0 rfl 0 rfl dX2_line_85 (rfl : 85 + 1 = 86) ?_
      refine hp_dup E hp_vc dX2_line_86 (rfl : 86 + 1 = 87) ?_
      refine hp_getI E hR in_X2 (hp_mono.c hm hc0) rfl 5 (Nat.le_of_ble_eq_true rfl) rfl q128 (fun _ h => h) dX2_line_87 (rfl : 87 + 3 = 90) ?_
      refine hp_iconst E (1 : Int32) (by decide) dX2_line_90 (rfl : 90 + 1 = 91) ?_
      refine hp_iload_n E hl 1 rfl 1 rfl dX2_line_91 (rfl : 91 + 1 = 92) ?_
      refine hp_ishl E dX2_line_92 (rfl : 92 + 1 = 93) ?_
      refine hp_ior E dX2_line_93 (rfl : 93 + 1 = 94) ?_
      refine hx_putI E hR in_X2 tyX2 tyX2_ok nmX2 (hp_mono.c hm hc0) rfl 5 (Nat.le_of_ble_eq_true rfl) rfl q128 (fun _ h => h) (Or.inl rfl) (Or.inl rfl) dX2_line_94 (rfl : 94 + 3 = 97) (fun S7618 H locs e7620 hm7619 hR => ?_)
      have h := h S7618 e7620
      have hm := hp_mono.tr hm hm7619
      refine hp_aload_n E hl 0 rfl 0 rfl dX2_line_97 (rfl : 97 + 1 = 98) ?_
      refine hp_iload_n E hl 1 rfl 1 rfl dX2_line_98 (rfl : 98 + 1 = 99) ?_
      have h : wp_X2_setting o v1 S7618 _ _ := h
      refine hp_xv E (hp_rVX E hR hl (m_X2_setting G _ _ _ _ _ (hp_mono.c hm hc0) h) (hp_mono.c hm hc0) (ci := 1) rfl rfl q548 q550 qs7 q74 q551 nf_X2_setting ⟨Nat.le_of_ble_eq_true rfl, Nat.le_of_ble_eq_true rfl⟩ (rest := []) rfl (Nat.le_of_ble_eq_true rfl) dX2_line_99 ⟨Nat.le_of_ble_eq_true rfl, Nat.le_of_ble_eq_true rfl⟩) hR hex (fun n S' hq => ⟨hp_mono.tr hm hq.1, hq.2 hq.1⟩) (Nat.le_of_ble_eq_true rfl) (Nat.le_of_ble_eq_true rfl) (rfl : 99 + 3 = 102) (fun S7621 H locs hq hR => ?_)
      obtain ⟨hm7622, h⟩ := hq
      have h := h hm7622
      have hm := hp_mono.tr hm hm7622
      refine hp_goto E (tgt := 165) dX2_line_102 (by decide) ?_
      exact W.widen (Nat.le_of_ble_eq_true rfl) (Nat.le_of_ble_eq_true rfl) (b165 _ _ _ _ h (lv_sub hl [0] rfl) hR hm)
  have b53 : ∀ (v1 : Int32) (S : hp_St) (H : Heap) (locs : List Loc) (ls : Array Slot), wb_X2_line_53 o v1 S Q X → lv_has ls 3 [(0, hp_v B o), (1, .int v1)] → hp_S B D s0 S H locs → hp_mono Si S → W p l e ({ frames := 11, cells := 3, slots := 80, locals := 704 } : Room) s m args below meth c H locs 0 0 (vx_MQ below (hp_Qv B D s0 (fun S' => hp_mono Si S' ∧ Q S')) (hp_XC B D s0 (fun n S' => hp_mono Si S' ∧ X n S')) args s 3 80 (fun q => B < q)) (F0 m 53 ls []) := by
    intro v1 S H locs ls h hl hR hm
    unfold wb_X2_line_53 at h
    refine hp_iload_n E hl 1 rfl 1 rfl dX2_line_53 (rfl : 53 + 1 = 54) ?_
    refine hp_iconst E (3 : Int32) (by decide) dX2_line_54 (rfl : 54 + 1 = 55) ?_
    refine hp_icmp_le E dX2_line_55 (rfl : 55 + 3 = 58) (tgt := 76) (by decide) (fun hb => ?_) (fun hb => ?_)
    · have h := h.1 hb
      exact b76 _ _ _ _ _ h hl hR hm
    · have h := h.2 hb
      refine hp_aload_n E hl 0 rfl 0 rfl dX2_line_58 (rfl : 58 + 1 = 59) ?_
      refine hp_getI E hR in_X2 (hp_mono.c hm hc0) rfl 5 (Nat.le_of_ble_eq_true rfl) rfl q128 (fun _ h => h) dX2_line_59 (rfl : 59 + 3 = 62) ?_
      refine hp_iload_n E hl 1 rfl 1 rfl dX2_line_62 (rfl : 62 + 1 = 63) ?_
      refine hp_ishr E dX2_line_63 (rfl : 63 + 1 = 64) ?_
      refine hp_iconst E (1 : Int32) (by decide) dX2_line_64 (rfl : 64 + 1 = 65) ?_
      refine hp_iand E dX2_line_65 (rfl : 65 + 1 = 66) ?_
      refine hp_iconst E (1 : Int32) (by decide) dX2_line_66 (rfl : 66 + 1 = 67) ?_
      refine hp_icmp_ne E dX2_line_67 (rfl : 67 + 3 = 70) (tgt := 76) (by decide) (fun hb => ?_) (fun hb => ?_)
      · have h := h.1 hb
        refine hp_aload_n E hl 0 rfl 0 rfl dX2_line_70 (rfl : 70 + 1 = 71) ?_
        refine hp_iconst E (3 : Int32) (by decide) dX2_line_71 (rfl : 71 + 1 = 72) ?_
        refine hp_fa (hp_rV E hR hl (m_X2_wrong G _ _ _ _ (hp_mono.c hm hc0) h) (hp_mono.c hm hc0) (ci := 1) rfl rfl q470 q472 qs5 q74 q473 nf_X2_wrong ⟨Nat.le_of_ble_eq_true rfl, Nat.le_of_ble_eq_true rfl⟩ (rest := []) rfl (Nat.le_of_ble_eq_true rfl) dX2_line_72 ⟨Nat.le_of_ble_eq_true rfl, Nat.le_of_ble_eq_true rfl⟩) hR (rfl : 72 + 3 = 75) (fun z5301 S5302 H locs hq hR => ?_)
        obtain ⟨hm5303, h⟩ := hq
        have h := h hm5303
        have hm := hp_mono.tr hm hm5303
        obtain ⟨hc5304, h⟩ := h
        exact hp_throw E hR hex hc5304 ⟨hm, h⟩ (Nat.le_of_ble_eq_true rfl) (Nat.le_of_ble_eq_true rfl) dX2_line_75
      · have h := h.2 hb
        exact b76 _ _ _ _ _ h hl hR hm
  unfold wp_X2_line at h
  refine hp_aload_n E hl 0 rfl 0 rfl dX2_line_0 (rfl : 0 + 1 = 1) ?_
  refine hp_getI E hR in_X2 hc0 rfl 3 (Nat.le_of_ble_eq_true rfl) rfl q126 (fun _ h => h) dX2_line_1 (rfl : 1 + 3 = 4) ?_
  refine hp_if_ne E dX2_line_4 (rfl : 4 + 3 = 7) (tgt := 16) (by decide) (fun hb => ?_) (fun hb => ?_)
  · have h := h.1 hb
    refine hp_aload_n E hl 0 rfl 0 rfl dX2_line_7 (rfl : 7 + 1 = 8) ?_
    refine hp_getI E hR in_X2 hc0 rfl 4 (Nat.le_of_ble_eq_true rfl) rfl q127 (fun _ h => h) dX2_line_8 (rfl : 8 + 3 = 11) ?_
    refine hp_bipush E (7 : Int32) (by decide) dX2_line_11 (rfl : 11 + 2 = 13) ?_
    refine hp_icmp_le E dX2_line_13 (rfl : 13 + 3 = 16) (tgt := 22) (by decide) (fun hb => ?_) (fun hb => ?_)
    · have h := h.1 hb
      refine hp_aload_n E hl 0 rfl 0 rfl dX2_line_22 (rfl : 22 + 1 = 23) ?_
      refine hp_getI E hR in_X2 hc0 rfl 4 (Nat.le_of_ble_eq_true rfl) rfl q127 (fun _ h => h) dX2_line_23 (rfl : 23 + 3 = 26) ?_
      refine hp_istore_n E hl 1 rfl (lv' := [(0, hp_v B o)]) dX2_line_26 (rfl : 26 + 1 = 27) (by decide) (by simp [hp_vc, hp_ci, hp_cj]) (fun ls hl => ?_)
      refine hp_iload_n E hl 1 rfl 0 rfl dX2_line_27 (rfl : 27 + 1 = 28) ?_
      refine hp_iconst E (3 : Int32) (by decide) dX2_line_28 (rfl : 28 + 1 = 29) ?_
      refine hp_icmp_gt E dX2_line_29 (rfl : 29 + 3 = 32) (tgt := 53) (by decide) (fun hb => ?_) (fun hb => ?_)
      · have h := h.1 hb
        refine hp_aload_n E hl 0 rfl 1 rfl dX2_line_32 (rfl : 32 + 1 = 33) ?_
        refine hp_getR E hR in_X2 hc0 rfl 6 (Nat.le_of_ble_eq_true rfl) rfl q129 (fun _ h => h) dX2_line_33 (rfl : 33 + 3 = 36) ?_
        obtain ⟨hc1, h⟩ := h
        refine hp_getRN E hR in_X3 hc1 rfl 0 (Nat.le_of_ble_eq_true rfl) rfl q184 (fun _ h => h) dX2_line_36 (rfl : 36 + 3 = 39) ?_
        obtain ⟨hc2, h⟩ := h
        refine hp_fi (hp_rV E hR hl (m_J2_size G _ _ _ hc2 h) hc2 (ci := 16) rfl rfl q544 q545 q546 q78 q547 nf_J2_size ⟨Nat.le_of_ble_eq_true rfl, Nat.le_of_ble_eq_true rfl⟩ (rest := []) rfl (Nat.le_of_ble_eq_true rfl) dX2_line_39 ⟨Nat.le_of_ble_eq_true rfl, Nat.le_of_ble_eq_true rfl⟩) hR (rfl : 39 + 3 = 42) (fun z3 Sx H locs hq hR => ?_)
        obtain ⟨hSx, h⟩ := hq
        rw [hSx] at hR
        refine hp_bipush E (24 : Int32) (by decide) dX2_line_42 (rfl : 42 + 2 = 44) ?_
        refine hp_icmp_ne E dX2_line_44 (rfl : 44 + 3 = 47) (tgt := 53) (by decide) (fun hb => ?_) (fun hb => ?_)
        · have h := h.1 hb
          refine hp_aload_n E hl 0 rfl 1 rfl dX2_line_47 (rfl : 47 + 1 = 48) ?_
          refine hp_iconst E (2 : Int32) (by decide) dX2_line_48 (rfl : 48 + 1 = 49) ?_
          refine hp_fa (hp_rV E hR hl (m_X2_wrong G _ _ _ _ hc0 h) hc0 (ci := 1) rfl rfl q470 q472 qs5 q74 q473 nf_X2_wrong ⟨Nat.le_of_ble_eq_true rfl, Nat.le_of_ble_eq_true rfl⟩ (rest := []) rfl (Nat.le_of_ble_eq_true rfl) dX2_line_49 ⟨Nat.le_of_ble_eq_true rfl, Nat.le_of_ble_eq_true rfl⟩) hR (rfl : 49 + 3 = 52) (fun z4 S5 H locs hq hR => ?_)
          obtain ⟨hm6, h⟩ := hq
          have h := h hm6
          have hm := hp_mono.tr hm hm6
          obtain ⟨hc7, h⟩ := h
          exact hp_throw E hR hex hc7 ⟨hm, h⟩ (Nat.le_of_ble_eq_true rfl) (Nat.le_of_ble_eq_true rfl) dX2_line_52
        · have h := h.2 hb
          exact b53 _ _ _ _ _ h (lv_sub hl [1, 0] rfl) hR hm
      · have h := h.2 hb
        exact b53 _ _ _ _ _ h (lv_sub hl [1, 0] rfl) hR hm
    · have h := h.2 hb
      exact b16 _ _ _ _ h hl hR hm
  · have h := h.2 hb
    exact b16 _ _ _ _ h hl hR hm
def wb_X6_begin_187 (o : Nat) (a1 : Int32) (v2 : Int32) (S : hp_St) (K35 : Int32 → hp_St → Prop) (Q : hp_St → Prop) : Prop := K35 (v2 + (1 : Int32)) S
def wb_X6_begin_35 (o : Nat) (a1 : Int32) (v2 : Int32) (S : hp_St) (K35 : Int32 → hp_St → Prop) (Q : hp_St → Prop) : Prop := (st_C S (st_R S o 10) = 1) ∧ (st_C S (st_R S (st_R S o 10) 8) = 17) ∧ wp_J2_size (st_R S (st_R S o 10) 8) S (fun z3503 => (((v2 < z3503) → wp_J2_get (st_R S (st_R S o 10) 8) v2 S (fun z3504 => (st_C S z3504 = 10) ∧ (st_C S (st_R S (st_R S o 10) 13) = 4) ∧ (st_C S (st_R S (st_R S (st_R S o 10) 13) 0) = 50) ∧ (vp_in v2 (st_L S (st_R S (st_R S (st_R S o 10) 13) 0))) ∧ ((((st_I S (st_R S (st_R S (st_R S o 10) 13) 0) v2.toNatClampNeg) = (-1 : Int32)) → (st_C S (st_R S (st_R S o 10) 7) = 3) ∧ wp_X3_may (st_R S (st_R S o 10) 7) z3504 (st_I S (st_R S o 10) 4) (0 : Int32) S (fun z3510 => (((z3510 = 0) → wb_X6_begin_187 o a1 v2 S K35 Q) ∧ ((¬ (z3510 = 0)) → (st_C S (st_R S o 0) = 50) ∧ (vp_in (st_I S o 5) (st_L S (st_R S o 0))) ∧ (∀ S3513, S3513 = st_pI S (st_R S o 0) (st_I S o 5).toNatClampNeg v2 → (st_C S3513 (st_R S3513 o 10) = 1) ∧ (st_C S3513 (st_R S3513 (st_R S3513 o 10) 7) = 3) ∧ wp_X3_price (st_R S3513 (st_R S3513 o 10) 7) z3504 (st_I S3513 (st_R S3513 o 10) 4) (0 : Int32) S3513 (fun z3518 => (st_C S3513 (st_R S3513 o 1) = 50) ∧ (vp_in (st_I S3513 o 5) (st_L S3513 (st_R S3513 o 1))) ∧ (∀ S3521, S3521 = st_pI S3513 (st_R S3513 o 1) (st_I S3513 o 5).toNatClampNeg z3518 → (st_C S3521 (st_R S3521 o 10) = 1) ∧ wp_X1_worth_3 (st_R S3521 o 10) (0 : Int32) z3504 S3521 (fun z3525 => (st_C S3521 (st_R S3521 o 1) = 50) ∧ (vp_in (st_I S3521 o 5) (st_L S3521 (st_R S3521 o 1))) ∧ (st_C S3521 (st_R S3521 o 2) = 50) ∧ (vp_in (st_I S3521 o 5) (st_L S3521 (st_R S3521 o 2))) ∧ (∀ S3530, S3530 = st_pI S3521 (st_R S3521 o 2) (st_I S3521 o 5).toNatClampNeg (((2 : Int32) * z3525) - ((1000 : Int32) * (st_I S3521 (st_R S3521 o 1) (st_I S3521 o 5).toNatClampNeg))) → (∀ S3533, S3533 = st_pI S3530 o 5 ((st_I S3530 o 5) + (1 : Int32)) → wb_X6_begin_187 o a1 v2 S3533 K35 Q)))))))))) ∧ ((¬ ((st_I S (st_R S (st_R S (st_R S o 10) 13) 0) v2.toNatClampNeg) = (-1 : Int32))) → wb_X6_begin_187 o a1 v2 S K35 Q)))) ∧ ((¬ (v2 < z3503)) → Q S)))
def wl_X6_begin_35 (o : Nat) (a1 : Int32) (v2 : Int32) (S : hp_St) (Q : hp_St → Prop) : Prop := ∃ (I : Int32 → hp_St → Prop) (μ : Int32 → hp_St → Nat), I v2 S ∧ ∀ (v2 : Int32) (S1 : hp_St), hp_mono S S1 → I v2 S1 → wb_X6_begin_35 o a1 v2 S1 (fun v2' S2 => I v2' S2 ∧ μ v2' S2 < μ v2 S1) Q
def wp_X6_begin (o : Nat) (a1 : Int32) (S : hp_St) (Q : hp_St → Prop) : Prop := (∀ S1, S1 = st_pI S o 6 a1 → (∀ S4, S4 = st_pI S1 o 5 (0 : Int32) → (∀ S7, S7 = st_pI S4 o 9 (0 : Int32) → (st_C S7 (st_R S7 o 10) = 1) ∧ (st_C S7 (st_R S7 (st_R S7 o 10) 13) = 4) ∧ wp_X4_know (st_R S7 (st_R S7 o 10) 13) (st_I S7 (st_R S7 o 10) 4) S7 (fun z12 S13 => hp_mono S7 S13 → wl_X6_begin_35 o a1 (0 : Int32) S13 Q))))
theorem nf_X6_begin : hp_nf yX6_begin 1 = true := by decide +kernel
set_option maxHeartbeats 4000000 in
theorem m_X6_begin {l : Launch} {B : Nat} {D : va_G} {s0 : State} {b0 : Nat} (G : hp_G l B D s0 b0) (o : Nat) (a1 : Int32) (Si : hp_St) (Q : hp_St → Prop) (hc0 : st_C Si o = 6) (h : wp_X6_begin o a1 Si Q) : hp_M l B D s0 yX6_begin cX6_begin 4 none 7 448 0 0 [hp_v B o, .int a1] Si (hp_Qv B D s0 (fun S' => hp_mono Si S' ∧ Q S')) := by
  refine hp_start G (by decide +kernel) rfl rfl (lv := [(0, hp_v B o), (1, .int a1)]) (by simp [lg_sl, hp_vc, hp_ci, hp_cj]) (by simp [lv_args, hp_vc, hp_ci, hp_cj]) ?_
  intro p e s m args below meth c E ls hl hR
  have hm : hp_mono Si Si := hp_mono.rf
  generalize hH : s.heap = H at hR ⊢
  generalize hLo : ([] : List Loc) = locs at hR ⊢
  have b35 : ∀ (v2 : Int32) (S : hp_St) (H : Heap) (locs : List Loc) (ls : Array Slot), wl_X6_begin_35 o a1 v2 S Q → lv_has ls 4 [(0, hp_v B o), (2, .int v2)] → hp_S B D s0 S H locs → hp_mono Si S → W p l e ({ frames := 7, cells := 0, slots := 0, locals := 448 } : Room) s m args below meth c H locs 0 0 (MQ below (hp_Qv B D s0 (fun S' => hp_mono Si S' ∧ Q S')) args s 0 0 (fun q => B < q)) (F0 m 35 ls []) := by
    intro v2 S H locs ls h hl hR hm
    obtain ⟨I35, μ35, hI, hst⟩ := h
    obtain ⟨Sa35, eSa35⟩ : ∃ x, x = S := ⟨_, rfl⟩
    subst eSa35
    have key35 : ∀ (N : Nat) (v2 : Int32) (Su35 : hp_St) (H : Heap) (locs : List Loc) (ls : Array Slot), μ35 v2 Su35 < N → I35 v2 Su35 → lv_has ls 4 [(0, hp_v B o), (2, .int v2)] → hp_S B D s0 Su35 H locs → hp_mono Sa35 Su35 → W p l e ({ frames := 7, cells := 0, slots := 0, locals := 448 } : Room) s m args below meth c H locs 0 0 (MQ below (hp_Qv B D s0 (fun S' => hp_mono Si S' ∧ Q S')) args s 0 0 (fun q => B < q)) (F0 m 35 ls []) := by
      intro N
      induction N with
      | zero =>
        intro v2 Su35 H locs ls hN
        exact absurd hN (Nat.not_lt_zero _)
      | succ N ih35 =>
        intro v2 Su35 H locs ls hN hI hl hR ms35
        have h := hst v2 Su35 ms35 hI
        have hm := hp_mono.tr hm ms35
        obtain ⟨K35, hKe35⟩ : ∃ K : Int32 → hp_St → Prop, K = (fun v2' Sk => I35 v2' Sk ∧ μ35 v2' Sk < μ35 v2 Su35) := ⟨_, rfl⟩
        rw [← hKe35] at h
        have hK35 : ∀ (v2' : Int32) (Sk : hp_St) (H : Heap) (locs : List Loc) (ls : Array Slot), K35 v2' Sk → lv_has ls 4 [(0, hp_v B o), (2, .int (v2'))] → hp_S B D s0 Sk H locs → hp_mono Sa35 Sk → W p l e ({ frames := 7, cells := 0, slots := 0, locals := 448 } : Room) s m args below meth c H locs 0 0 (MQ below (hp_Qv B D s0 (fun S' => hp_mono Si S' ∧ Q S')) args s 0 0 (fun q => B < q)) (F0 m 35 ls []) := by
          intro v2' Sk H locs ls hI hl hR ms
          rw [hKe35] at hI
          exact ih35 v2' Sk H locs ls (Nat.lt_of_lt_of_le hI.2 (Nat.le_of_lt_succ hN)) hI.1 hl hR ms
        have b187 : ∀ (v2 : Int32) (S : hp_St) (H : Heap) (locs : List Loc) (ls : Array Slot), wb_X6_begin_187 o a1 v2 S K35 Q → lv_has ls 4 [(0, hp_v B o), (2, .int v2)] → hp_S B D s0 S H locs → hp_mono Si S → hp_mono Sa35 S → W p l e ({ frames := 7, cells := 0, slots := 0, locals := 448 } : Room) s m args below meth c H locs 0 0 (MQ below (hp_Qv B D s0 (fun S' => hp_mono Si S' ∧ Q S')) args s 0 0 (fun q => B < q)) (F0 m 187 ls []) := by
          intro v2 S H locs ls h hl hR hm ms35
          unfold wb_X6_begin_187 at h
          refine hp_iinc E hl (v2 + (1 : Int32)) 1 (lv' := [(0, hp_v B o)]) dX6_begin_187 (rfl : 187 + 3 = 190) rfl (by first | rfl | (congr 1)) (by decide) rfl (fun ls hl => ?_)
          refine hp_goto E (tgt := 35) dX6_begin_190 (by decide) ?_
          exact hK35 _ _ _ _ _ h (lv_sub hl [1, 0] rfl) hR ms35
        unfold wb_X6_begin_35 at h
        refine hp_iload_n E hl 2 rfl 1 rfl dX6_begin_35 (rfl : 35 + 1 = 36) ?_
        refine hp_aload_n E hl 0 rfl 0 rfl dX6_begin_36 (rfl : 36 + 1 = 37) ?_
        refine hp_getR E hR in_X6 (hp_mono.c hm hc0) rfl 10 (Nat.le_of_ble_eq_true rfl) rfl q290 (fun _ h => h) dX6_begin_37 (rfl : 37 + 3 = 40) ?_
        obtain ⟨hc3501, h⟩ := h
        refine hp_getRN E hR in_X1 hc3501 rfl 8 (Nat.le_of_ble_eq_true rfl) rfl q326 (fun _ h => h) dX6_begin_40 (rfl : 40 + 3 = 43) ?_
        obtain ⟨hc3502, h⟩ := h
        refine hp_fi (hp_rV E hR hl (m_J2_size G _ _ _ hc3502 h) hc3502 (ci := 16) rfl rfl q1118 q545 q546 q78 q547 nf_J2_size ⟨Nat.le_of_ble_eq_true rfl, Nat.le_of_ble_eq_true rfl⟩ (rest := [.int v2]) rfl (Nat.le_of_ble_eq_true rfl) dX6_begin_43 ⟨Nat.le_of_ble_eq_true rfl, Nat.le_of_ble_eq_true rfl⟩) hR (rfl : 43 + 3 = 46) (fun z3503 Sx H locs hq hR => ?_)
        obtain ⟨hSx, h⟩ := hq
        rw [hSx] at hR
        refine hp_icmp_ge E dX6_begin_46 (rfl : 46 + 3 = 49) (tgt := 193) (by decide) (fun hb => ?_) (fun hb => ?_)
        · have h := h.1 hb
          refine hp_aload_n E hl 0 rfl 0 rfl dX6_begin_49 (rfl : 49 + 1 = 50) ?_
          refine hp_getR E hR in_X6 (hp_mono.c hm hc0) rfl 10 (Nat.le_of_ble_eq_true rfl) rfl q290 (fun _ h => h) dX6_begin_50 (rfl : 50 + 3 = 53) ?_
          refine hp_getRN E hR in_X1 hc3501 rfl 8 (Nat.le_of_ble_eq_true rfl) rfl q326 (fun _ h => h) dX6_begin_53 (rfl : 53 + 3 = 56) ?_
          refine hp_iload_n E hl 2 rfl 1 rfl dX6_begin_56 (rfl : 56 + 1 = 57) ?_
          refine hp_fa (hp_rV E hR hl (m_J2_get G _ _ _ _ hc3502 h) hc3502 (ci := 16) rfl rfl q1119 q728 q729 q78 q730 nf_J2_get ⟨Nat.le_of_ble_eq_true rfl, Nat.le_of_ble_eq_true rfl⟩ (rest := []) rfl (Nat.le_of_ble_eq_true rfl) dX6_begin_57 ⟨Nat.le_of_ble_eq_true rfl, Nat.le_of_ble_eq_true rfl⟩) hR (rfl : 57 + 3 = 60) (fun z3504 Sx H locs hq hR => ?_)
          obtain ⟨hSx, h⟩ := hq
          rw [hSx] at hR
          obtain ⟨hc3505, h⟩ := h
          refine hp_castS E hR hc3505 (ci := 9) rfl q1120 dX6_begin_60 (rfl : 60 + 3 = 63) ?_
          refine hp_astore_n E hl 3 rfl (lv' := [(0, hp_v B o), (2, .int v2)]) dX6_begin_63 (rfl : 63 + 1 = 64) (by decide) rfl (fun ls hl => ?_)
          refine hp_aload_n E hl 0 rfl 1 rfl dX6_begin_64 (rfl : 64 + 1 = 65) ?_
          refine hp_getR E hR in_X6 (hp_mono.c hm hc0) rfl 10 (Nat.le_of_ble_eq_true rfl) rfl q290 (fun _ h => h) dX6_begin_65 (rfl : 65 + 3 = 68) ?_
          refine hp_getRN E hR in_X1 hc3501 rfl 13 (Nat.le_of_ble_eq_true rfl) rfl q335 (fun _ h => h) dX6_begin_68 (rfl : 68 + 3 = 71) ?_
          obtain ⟨hc3506, h⟩ := h
          refine hp_getRN E hR in_X4 hc3506 rfl 0 (Nat.le_of_ble_eq_true rfl) rfl q228 (fun _ h => h) dX6_begin_71 (rfl : 71 + 3 = 74) ?_
          refine hp_iload_n E hl 2 rfl 2 rfl dX6_begin_74 (rfl : 74 + 1 = 75) ?_
          obtain ⟨hc3507, h⟩ := h
          obtain ⟨hi3508, h⟩ := h
          refine hp_iald E hR hc3507 hi3508 dX6_begin_75 (rfl : 75 + 1 = 76) ?_
          refine hp_iconst E (-1 : Int32) (by decide) dX6_begin_76 (rfl : 76 + 1 = 77) ?_
          refine hp_icmp_ne E dX6_begin_77 (rfl : 77 + 3 = 80) (tgt := 187) (by decide) (fun hb => ?_) (fun hb => ?_)
          · have h := h.1 hb
            refine hp_aload_n E hl 0 rfl 1 rfl dX6_begin_80 (rfl : 80 + 1 = 81) ?_
            refine hp_getR E hR in_X6 (hp_mono.c hm hc0) rfl 10 (Nat.le_of_ble_eq_true rfl) rfl q290 (fun _ h => h) dX6_begin_81 (rfl : 81 + 3 = 84) ?_
            refine hp_getRN E hR in_X1 hc3501 rfl 7 (Nat.le_of_ble_eq_true rfl) rfl q323 (fun _ h => h) dX6_begin_84 (rfl : 84 + 3 = 87) ?_
            refine hp_aload_n E hl 3 rfl 0 rfl dX6_begin_87 (rfl : 87 + 1 = 88) ?_
            refine hp_aload_n E hl 0 rfl 1 rfl dX6_begin_88 (rfl : 88 + 1 = 89) ?_
            refine hp_getR E hR in_X6 (hp_mono.c hm hc0) rfl 10 (Nat.le_of_ble_eq_true rfl) rfl q290 (fun _ h => h) dX6_begin_89 (rfl : 89 + 3 = 92) ?_
            refine hp_getIN E hR in_X1 hc3501 rfl 4 (Nat.le_of_ble_eq_true rfl) rfl q319 (fun _ h => h) dX6_begin_92 (rfl : 92 + 3 = 95) ?_
            refine hp_iconst E (0 : Int32) (by decide) dX6_begin_95 (rfl : 95 + 1 = 96) ?_
            obtain ⟨hc3509, h⟩ := h
            refine hp_fi (hp_rV E hR hl (m_X3_may G _ _ _ _ _ _ hc3509 h) hc3509 (ci := 2) rfl rfl q1121 q740 q741 q75 q742 nf_X3_may ⟨Nat.le_of_ble_eq_true rfl, Nat.le_of_ble_eq_true rfl⟩ (rest := []) rfl (Nat.le_of_ble_eq_true rfl) dX6_begin_96 ⟨Nat.le_of_ble_eq_true rfl, Nat.le_of_ble_eq_true rfl⟩) hR (rfl : 96 + 3 = 99) (fun z3510 Sx H locs hq hR => ?_)
            obtain ⟨hSx, h⟩ := hq
            rw [hSx] at hR
            refine hp_if_ne E dX6_begin_99 (rfl : 99 + 3 = 102) (tgt := 105) (by decide) (fun hb => ?_) (fun hb => ?_)
            · have h := h.1 hb
              refine hp_goto E (tgt := 187) dX6_begin_102 (by decide) ?_
              exact b187 _ _ _ _ _ h (lv_sub hl [1, 2] rfl) hR hm ms35
            · have h := h.2 hb
              refine hp_aload_n E hl 0 rfl 1 rfl dX6_begin_105 (rfl : 105 + 1 = 106) ?_
              refine hp_getR E hR in_X6 (hp_mono.c hm hc0) rfl 0 (Nat.le_of_ble_eq_true rfl) rfl q276 (fun _ h => h) dX6_begin_106 (rfl : 106 + 3 = 109) ?_
              refine hp_aload_n E hl 0 rfl 1 rfl dX6_begin_109 (rfl : 109 + 1 = 110) ?_
              refine hp_getI E hR in_X6 (hp_mono.c hm hc0) rfl 5 (Nat.le_of_ble_eq_true rfl) rfl q283 (fun _ h => h) dX6_begin_110 (rfl : 110 + 3 = 113) ?_
              refine hp_iload_n E hl 2 rfl 2 rfl dX6_begin_113 (rfl : 113 + 1 = 114) ?_
              obtain ⟨hc3511, h⟩ := h
              obtain ⟨hi3512, h⟩ := h
              refine hx_iast E hR hc3511 hi3512 dX6_begin_114 (rfl : 114 + 1 = 115) (fun S3513 H locs e3515 hm3514 hR => ?_)
              have h := h S3513 e3515
              have hm := hp_mono.tr hm hm3514
              have ms35 := hp_mono.tr ms35 hm3514
              refine hp_aload_n E hl 0 rfl 1 rfl dX6_begin_115 (rfl : 115 + 1 = 116) ?_
              refine hp_getR E hR in_X6 (hp_mono.c hm hc0) rfl 1 (Nat.le_of_ble_eq_true rfl) rfl q278 (fun _ h => h) dX6_begin_116 (rfl : 116 + 3 = 119) ?_
              refine hp_aload_n E hl 0 rfl 1 rfl dX6_begin_119 (rfl : 119 + 1 = 120) ?_
              refine hp_getI E hR in_X6 (hp_mono.c hm hc0) rfl 5 (Nat.le_of_ble_eq_true rfl) rfl q283 (fun _ h => h) dX6_begin_120 (rfl : 120 + 3 = 123) ?_
              refine hp_aload_n E hl 0 rfl 1 rfl dX6_begin_123 (rfl : 123 + 1 = 124) ?_
              refine hp_getR E hR in_X6 (hp_mono.c hm hc0) rfl 10 (Nat.le_of_ble_eq_true rfl) rfl q290 (fun _ h => h) dX6_begin_124 (rfl : 124 + 3 = 127) ?_
              obtain ⟨hc3516, h⟩ := h
              refine hp_getRN E hR in_X1 hc3516 rfl 7 (Nat.le_of_ble_eq_true rfl) rfl q323 (fun _ h => h) dX6_begin_127 (rfl : 127 + 3 = 130) ?_
              refine hp_aload_n E hl 3 rfl 0 rfl dX6_begin_130 (rfl : 130 + 1 = 131) ?_
              refine hp_aload_n E hl 0 rfl 1 rfl dX6_begin_131 (rfl : 131 + 1 = 132) ?_
              refine hp_getR E hR in_X6 (hp_mono.c hm hc0) rfl 10 (Nat.le_of_ble_eq_true rfl) rfl q290 (fun _ h => h) dX6_begin_132 (rfl : 132 + 3 = 135) ?_
              refine hp_getIN E hR in_X1 hc3516 rfl 4 (Nat.le_of_ble_eq_true rfl) rfl q319 (fun _ h => h) dX6_begin_135 (rfl : 135 + 3 = 138) ?_
              refine hp_iconst E (0 : Int32) (by decide) dX6_begin_138 (rfl : 138 + 1 = 139) ?_
              obtain ⟨hc3517, h⟩ := h
              refine hp_fi (hp_rV E hR hl (m_X3_price G _ _ _ _ _ _ hc3517 h) hc3517 (ci := 2) rfl rfl q1122 q760 q761 q75 q762 nf_X3_price ⟨Nat.le_of_ble_eq_true rfl, Nat.le_of_ble_eq_true rfl⟩ (rest := [.int (st_I S3513 o 5), hp_v B (st_R S3513 o 1)]) rfl (Nat.le_of_ble_eq_true rfl) dX6_begin_139 ⟨Nat.le_of_ble_eq_true rfl, Nat.le_of_ble_eq_true rfl⟩) hR (rfl : 139 + 3 = 142) (fun z3518 Sx H locs hq hR => ?_)
              obtain ⟨hSx, h⟩ := hq
              rw [hSx] at hR
              obtain ⟨hc3519, h⟩ := h
              obtain ⟨hi3520, h⟩ := h
              refine hx_iast E hR hc3519 hi3520 dX6_begin_142 (rfl : 142 + 1 = 143) (fun S3521 H locs e3523 hm3522 hR => ?_)
              have h := h S3521 e3523
              have hm := hp_mono.tr hm hm3522
              have ms35 := hp_mono.tr ms35 hm3522
              refine hp_aload_n E hl 0 rfl 1 rfl dX6_begin_143 (rfl : 143 + 1 = 144) ?_
              refine hp_getR E hR in_X6 (hp_mono.c hm hc0) rfl 2 (Nat.le_of_ble_eq_true rfl) rfl q279 (fun _ h => h) dX6_begin_144 (rfl : 144 + 3 = 147) ?_
              refine hp_aload_n E hl 0 rfl 1 rfl dX6_begin_147 (rfl : 147 + 1 = 148) ?_
              refine hp_getI E hR in_X6 (hp_mono.c hm hc0) rfl 5 (Nat.le_of_ble_eq_true rfl) rfl q283 (fun _ h => h) dX6_begin_148 (rfl : 148 + 3 = 151) ?_
              refine hp_iconst E (2 : Int32) (by decide) dX6_begin_151 (rfl : 151 + 1 = 152) ?_
              refine hp_aload_n E hl 0 rfl 1 rfl dX6_begin_152 (rfl : 152 + 1 = 153) ?_
              refine hp_getR E hR in_X6 (hp_mono.c hm hc0) rfl 10 (Nat.le_of_ble_eq_true rfl) rfl q290 (fun _ h => h) dX6_begin_153 (rfl : 153 + 3 = 156) ?_
              refine hp_iconst E (0 : Int32) (by decide) dX6_begin_156 (rfl : 156 + 1 = 157) ?_
              refine hp_aload_n E hl 3 rfl 0 rfl dX6_begin_157 (rfl : 157 + 1 = 158) ?_
              obtain ⟨hc3524, h⟩ := h
              refine hp_fi (hp_rVN E hR hl (m_X1_worth_3 G _ _ _ _ _ hc3524 h) hc3524 (ci := 0) rfl rfl q1123 q1092 qs25 q73 q1093 nf_X1_worth_3 ⟨Nat.le_of_ble_eq_true rfl, Nat.le_of_ble_eq_true rfl⟩ (rest := [.int (2 : Int32), .int (st_I S3521 o 5), hp_v B (st_R S3521 o 2)]) rfl (Nat.le_of_ble_eq_true rfl) dX6_begin_158 ⟨Nat.le_of_ble_eq_true rfl, Nat.le_of_ble_eq_true rfl⟩) hR (rfl : 158 + 3 = 161) (fun z3525 Sx H locs hq hR => ?_)
              obtain ⟨hSx, h⟩ := hq
              rw [hSx] at hR
              refine hp_imul E dX6_begin_161 (rfl : 161 + 1 = 162) ?_
              refine hp_sipush E (1000 : Int32) (by decide) dX6_begin_162 (rfl : 162 + 3 = 165) ?_
              refine hp_aload_n E hl 0 rfl 1 rfl dX6_begin_165 (rfl : 165 + 1 = 166) ?_
              refine hp_getR E hR in_X6 (hp_mono.c hm hc0) rfl 1 (Nat.le_of_ble_eq_true rfl) rfl q278 (fun _ h => h) dX6_begin_166 (rfl : 166 + 3 = 169) ?_
              refine hp_aload_n E hl 0 rfl 1 rfl dX6_begin_169 (rfl : 169 + 1 = 170) ?_
              refine hp_getI E hR in_X6 (hp_mono.c hm hc0) rfl 5 (Nat.le_of_ble_eq_true rfl) rfl q283 (fun _ h => h) dX6_begin_170 (rfl : 170 + 3 = 173) ?_
              obtain ⟨hc3526, h⟩ := h
              obtain ⟨hi3527, h⟩ := h
              refine hp_iald E hR hc3526 hi3527 dX6_begin_173 (rfl : 173 + 1 = 174) ?_
              refine hp_imul E dX6_begin_174 (rfl : 174 + 1 = 175) ?_
              refine hp_isub E dX6_begin_175 (rfl : 175 + 1 = 176) ?_
              obtain ⟨hc3528, h⟩ := h
              obtain ⟨hi3529, h⟩ := h
              refine hx_iast E hR hc3528 hi3529 dX6_begin_176 (rfl : 176 + 1 = 177) (fun S3530 H locs e3532 hm3531 hR => ?_)
              have h := h S3530 e3532
              have hm := hp_mono.tr hm hm3531
              have ms35 := hp_mono.tr ms35 hm3531
              refine hp_aload_n E hl 0 rfl 1 rfl dX6_begin_177 (rfl : 177 + 1 = 178) ?_
              refine hp_dup E hp_vc dX6_begin_178 (rfl : 178 + 1 = 179) ?_
              refine hp_getI E hR in_X6 (hp_mono.c hm hc0) rfl 5 (Nat.le_of_ble_eq_true rfl) rfl q283 (fun _ h => h) dX6_begin_179 (rfl : 179 + 3 = 182) ?_
              refine hp_iconst E (1 : Int32) (by decide) dX6_begin_182 (rfl : 182 + 1 = 183) ?_
              refine hp_iadd E dX6_begin_183 (rfl : 183 + 1 = 184) ?_
              refine hx_putI E hR in_X6 tyX6 tyX6_ok nmX6 (hp_mono.c hm hc0) rfl 5 (Nat.le_of_ble_eq_true rfl) rfl q283 (fun _ h => h) (Or.inl rfl) (Or.inl rfl) dX6_begin_184 (rfl : 184 + 3 = 187) (fun S3533 H locs e3535 hm3534 hR => ?_)
              have h := h S3533 e3535
              have hm := hp_mono.tr hm hm3534
              have ms35 := hp_mono.tr ms35 hm3534
              exact b187 _ _ _ _ _ h (lv_sub hl [1, 2] rfl) hR hm ms35
          · have h := h.2 hb
            exact b187 _ _ _ _ _ h (lv_sub hl [1, 2] rfl) hR hm ms35
        · have h := h.2 hb
          exact hp_vret E hR ⟨hm, h⟩ (Nat.le_of_ble_eq_true rfl) (Nat.le_of_ble_eq_true rfl) dX6_begin_193
    exact key35 (μ35 v2 Sa35 + 1) v2 _ H locs ls (Nat.lt_succ_self _) hI hl hR hp_mono.rf
  unfold wp_X6_begin at h
  refine hp_aload_n E hl 0 rfl 0 rfl dX6_begin_0 (rfl : 0 + 1 = 1) ?_
  refine hp_iload_n E hl 1 rfl 1 rfl dX6_begin_1 (rfl : 1 + 1 = 2) ?_
  refine hx_putI E hR in_X6 tyX6 tyX6_ok nmX6 hc0 rfl 6 (Nat.le_of_ble_eq_true rfl) rfl q285 (fun _ h => h) (Or.inl rfl) (Or.inl rfl) dX6_begin_2 (rfl : 2 + 3 = 5) (fun S1 H locs e3 hm2 hR => ?_)
  have h := h S1 e3
  have hm := hp_mono.tr hm hm2
  refine hp_aload_n E hl 0 rfl 0 rfl dX6_begin_5 (rfl : 5 + 1 = 6) ?_
  refine hp_iconst E (0 : Int32) (by decide) dX6_begin_6 (rfl : 6 + 1 = 7) ?_
  refine hx_putI E hR in_X6 tyX6 tyX6_ok nmX6 (hp_mono.c hm hc0) rfl 5 (Nat.le_of_ble_eq_true rfl) rfl q283 (fun _ h => h) (Or.inl rfl) (Or.inl rfl) dX6_begin_7 (rfl : 7 + 3 = 10) (fun S4 H locs e6 hm5 hR => ?_)
  have h := h S4 e6
  have hm := hp_mono.tr hm hm5
  refine hp_aload_n E hl 0 rfl 0 rfl dX6_begin_10 (rfl : 10 + 1 = 11) ?_
  refine hp_iconst E (0 : Int32) (by decide) dX6_begin_11 (rfl : 11 + 1 = 12) ?_
  refine hx_putI E hR in_X6 tyX6 tyX6_ok nmX6 (hp_mono.c hm hc0) rfl 9 (Nat.le_of_ble_eq_true rfl) rfl q289 (fun _ h => h) (Or.inl rfl) (Or.inr ⟨rfl, (Or.inl rfl)⟩) dX6_begin_12 (rfl : 12 + 3 = 15) (fun S7 H locs e9 hm8 hR => ?_)
  have h := h S7 e9
  have hm := hp_mono.tr hm hm8
  refine hp_aload_n E hl 0 rfl 0 rfl dX6_begin_15 (rfl : 15 + 1 = 16) ?_
  refine hp_getR E hR in_X6 (hp_mono.c hm hc0) rfl 10 (Nat.le_of_ble_eq_true rfl) rfl q290 (fun _ h => h) dX6_begin_16 (rfl : 16 + 3 = 19) ?_
  obtain ⟨hc10, h⟩ := h
  refine hp_getRN E hR in_X1 hc10 rfl 13 (Nat.le_of_ble_eq_true rfl) rfl q335 (fun _ h => h) dX6_begin_19 (rfl : 19 + 3 = 22) ?_
  refine hp_aload_n E hl 0 rfl 0 rfl dX6_begin_22 (rfl : 22 + 1 = 23) ?_
  refine hp_getR E hR in_X6 (hp_mono.c hm hc0) rfl 10 (Nat.le_of_ble_eq_true rfl) rfl q290 (fun _ h => h) dX6_begin_23 (rfl : 23 + 3 = 26) ?_
  refine hp_getIN E hR in_X1 hc10 rfl 4 (Nat.le_of_ble_eq_true rfl) rfl q319 (fun _ h => h) dX6_begin_26 (rfl : 26 + 3 = 29) ?_
  obtain ⟨hc11, h⟩ := h
  refine hp_fa (hp_rV E hR hl (m_X4_know G _ _ _ _ hc11 h) hc11 (ci := 3) rfl rfl q1117 q947 q948 q79 q949 nf_X4_know ⟨Nat.le_of_ble_eq_true rfl, Nat.le_of_ble_eq_true rfl⟩ (rest := []) rfl (Nat.le_of_ble_eq_true rfl) dX6_begin_29 ⟨Nat.le_of_ble_eq_true rfl, Nat.le_of_ble_eq_true rfl⟩) hR (rfl : 29 + 3 = 32) (fun z12 S13 H locs hq hR => ?_)
  obtain ⟨hm14, h⟩ := hq
  have h := h hm14
  have hm := hp_mono.tr hm hm14
  refine hp_pop E hp_vc dX6_begin_32 (rfl : 32 + 1 = 33) ?_
  refine hp_iconst E (0 : Int32) (by decide) dX6_begin_33 (rfl : 33 + 1 = 34) ?_
  refine hp_istore_n E hl 2 rfl (lv' := [(0, hp_v B o), (1, .int a1)]) dX6_begin_34 (rfl : 34 + 1 = 35) (by decide) rfl (fun ls hl => ?_)
  exact b35 _ _ _ _ _ h (lv_sub hl [1, 0] rfl) hR hm
def wb_X6_isSpent_52 (o : Nat) (t0 : Int32) (S : hp_St) (Q : Int32 → Prop) : Prop := (t0 = 0 ∨ t0 = 1) ∧ Q t0
def wb_X6_isSpent_40 (o : Nat) (v1 : Int32) (S : hp_St) (Q : Int32 → Prop) : Prop := (((v1 ≤ (5000 : Int32)) → wb_X6_isSpent_52 o (0 : Int32) S Q) ∧ ((¬ (v1 ≤ (5000 : Int32))) → wb_X6_isSpent_52 o (1 : Int32) S Q))
def wb_X6_isSpent_4 (o : Nat) (v1 : Int32) (v2 : Int32) (S : hp_St) (K4 : Int32 → Int32 → Prop) (Q : Int32 → Prop) : Prop := (((v2 < (st_I S o 5)) → (((v1 ≤ (5000 : Int32)) → (st_C S (st_R S o 10) = 1) ∧ (st_C S (st_R S (st_R S o 10) 7) = 3) ∧ K4 (v1 * ((st_I S (st_R S (st_R S o 10) 7) 4) + (1 : Int32))) (v2 + (1 : Int32))) ∧ ((¬ (v1 ≤ (5000 : Int32))) → wb_X6_isSpent_40 o v1 S Q))) ∧ ((¬ (v2 < (st_I S o 5))) → wb_X6_isSpent_40 o v1 S Q))
def wl_X6_isSpent_4 (o : Nat) (v1 : Int32) (v2 : Int32) (S : hp_St) (Q : Int32 → Prop) : Prop := ∃ (I : Int32 → Int32 → Prop) (μ : Int32 → Int32 → Nat), I v1 v2 ∧ ∀ (v1 : Int32) (v2 : Int32), I v1 v2 → wb_X6_isSpent_4 o v1 v2 S (fun v1' v2' => I v1' v2' ∧ μ v1' v2' < μ v1 v2) Q
def wp_X6_isSpent (o : Nat) (S : hp_St) (Q : Int32 → Prop) : Prop := wl_X6_isSpent_4 o (1 : Int32) (0 : Int32) S Q
theorem nf_X6_isSpent : hp_nf yX6_isSpent 0 = true := by decide +kernel
set_option maxHeartbeats 4000000 in
theorem m_X6_isSpent {l : Launch} {B : Nat} {D : va_G} {s0 : State} {b0 : Nat} (G : hp_G l B D s0 b0) (o : Nat) (Si : hp_St) (Q : Int32 → Prop) (hc0 : st_C Si o = 6) (h : wp_X6_isSpent o Si Q) : hp_M l B D s0 yX6_isSpent cX6_isSpent 3 (some .boolean) 2 128 0 0 [hp_v B o] Si (hp_Qi B D s0 (fun r S' => S' = Si ∧ Q r)) := by
  refine hp_start G (by decide +kernel) rfl rfl (lv := [(0, hp_v B o)]) (by simp [lg_sl, hp_vc, hp_ci, hp_cj]) (by simp [lv_args, hp_vc, hp_ci, hp_cj]) ?_
  intro p e s m args below meth c E ls hl hR
  generalize hH : s.heap = H at hR ⊢
  generalize hLo : ([] : List Loc) = locs at hR ⊢
  have b52 : ∀ (t0 : Int32) (H : Heap) (locs : List Loc) (ls : Array Slot), wb_X6_isSpent_52 o t0 Si Q → lv_has ls 3 [] → hp_S B D s0 Si H locs → W p l e ({ frames := 2, cells := 0, slots := 0, locals := 128 } : Room) s m args below meth c H locs 0 0 (MQ below (hp_Qi B D s0 (fun r S' => S' = Si ∧ Q r)) args s 0 0 (fun q => B < q)) (F0 m 52 ls [.int t0]) := by
    intro t0 H locs ls h hl hR
    unfold wb_X6_isSpent_52 at h
    obtain ⟨hz5201, h⟩ := h
    exact hp_zret E hR hz5201 ⟨rfl, h⟩ (Nat.le_of_ble_eq_true rfl) (Nat.le_of_ble_eq_true rfl) dX6_isSpent_52
  have b40 : ∀ (v1 : Int32) (H : Heap) (locs : List Loc) (ls : Array Slot), wb_X6_isSpent_40 o v1 Si Q → lv_has ls 3 [(1, .int v1)] → hp_S B D s0 Si H locs → W p l e ({ frames := 2, cells := 0, slots := 0, locals := 128 } : Room) s m args below meth c H locs 0 0 (MQ below (hp_Qi B D s0 (fun r S' => S' = Si ∧ Q r)) args s 0 0 (fun q => B < q)) (F0 m 40 ls []) := by
    intro v1 H locs ls h hl hR
    unfold wb_X6_isSpent_40 at h
    refine hp_iload_n E hl 1 rfl 0 rfl dX6_isSpent_40 (rfl : 40 + 1 = 41) ?_
    refine hp_sipush E (5000 : Int32) (by decide) dX6_isSpent_41 (rfl : 41 + 3 = 44) ?_
    refine hp_icmp_le E dX6_isSpent_44 (rfl : 44 + 3 = 47) (tgt := 51) (by decide) (fun hb => ?_) (fun hb => ?_)
    · have h := h.1 hb
      refine hp_iconst E (0 : Int32) (by decide) dX6_isSpent_51 (rfl : 51 + 1 = 52) ?_
      exact b52 _ _ _ _ h (lv_sub hl [] rfl) hR
    · have h := h.2 hb
      refine hp_iconst E (1 : Int32) (by decide) dX6_isSpent_47 (rfl : 47 + 1 = 48) ?_
      refine hp_goto E (tgt := 52) dX6_isSpent_48 (by decide) ?_
      exact b52 _ _ _ _ h (lv_sub hl [] rfl) hR
  have b4 : ∀ (v1 : Int32) (v2 : Int32) (H : Heap) (locs : List Loc) (ls : Array Slot), wl_X6_isSpent_4 o v1 v2 Si Q → lv_has ls 3 [(0, hp_v B o), (1, .int v1), (2, .int v2)] → hp_S B D s0 Si H locs → W p l e ({ frames := 2, cells := 0, slots := 0, locals := 128 } : Room) s m args below meth c H locs 0 0 (MQ below (hp_Qi B D s0 (fun r S' => S' = Si ∧ Q r)) args s 0 0 (fun q => B < q)) (F0 m 4 ls []) := by
    intro v1 v2 H locs ls h hl hR
    obtain ⟨I4, μ4, hI, hst⟩ := h
    have key4 : ∀ (N : Nat) (v1 : Int32) (v2 : Int32) (H : Heap) (locs : List Loc) (ls : Array Slot), μ4 v1 v2 < N → I4 v1 v2 → lv_has ls 3 [(0, hp_v B o), (1, .int v1), (2, .int v2)] → hp_S B D s0 Si H locs → W p l e ({ frames := 2, cells := 0, slots := 0, locals := 128 } : Room) s m args below meth c H locs 0 0 (MQ below (hp_Qi B D s0 (fun r S' => S' = Si ∧ Q r)) args s 0 0 (fun q => B < q)) (F0 m 4 ls []) := by
      intro N
      induction N with
      | zero =>
        intro v1 v2 H locs ls hN
        exact absurd hN (Nat.not_lt_zero _)
      | succ N ih4 =>
        intro v1 v2 H locs ls hN hI hl hR
        have h := hst v1 v2 hI
        obtain ⟨K4, hKe4⟩ : ∃ K : Int32 → Int32 → Prop, K = (fun v1' v2' => I4 v1' v2' ∧ μ4 v1' v2' < μ4 v1 v2) := ⟨_, rfl⟩
        rw [← hKe4] at h
        have hK4 : ∀ (v1' : Int32) (v2' : Int32) (H : Heap) (locs : List Loc) (ls : Array Slot), K4 v1' v2' → lv_has ls 3 [(0, hp_v B o), (1, .int (v1')), (2, .int (v2'))] → hp_S B D s0 Si H locs → W p l e ({ frames := 2, cells := 0, slots := 0, locals := 128 } : Room) s m args below meth c H locs 0 0 (MQ below (hp_Qi B D s0 (fun r S' => S' = Si ∧ Q r)) args s 0 0 (fun q => B < q)) (F0 m 4 ls []) := by
          intro v1' v2' H locs ls hI hl hR
          rw [hKe4] at hI
          exact ih4 v1' v2' H locs ls (Nat.lt_of_lt_of_le hI.2 (Nat.le_of_lt_succ hN)) hI.1 hl hR
        unfold wb_X6_isSpent_4 at h
        refine hp_iload_n E hl 2 rfl 2 rfl dX6_isSpent_4 (rfl : 4 + 1 = 5) ?_
        refine hp_aload_n E hl 0 rfl 0 rfl dX6_isSpent_5 (rfl : 5 + 1 = 6) ?_
        refine hp_getI E hR in_X6 hc0 rfl 5 (Nat.le_of_ble_eq_true rfl) rfl q283 (fun _ h => h) dX6_isSpent_6 (rfl : 6 + 3 = 9) ?_
        refine hp_icmp_ge E dX6_isSpent_9 (rfl : 9 + 3 = 12) (tgt := 40) (by decide) (fun hb => ?_) (fun hb => ?_)
        · have h := h.1 hb
          refine hp_iload_n E hl 1 rfl 1 rfl dX6_isSpent_12 (rfl : 12 + 1 = 13) ?_
          refine hp_sipush E (5000 : Int32) (by decide) dX6_isSpent_13 (rfl : 13 + 3 = 16) ?_
          refine hp_icmp_gt E dX6_isSpent_16 (rfl : 16 + 3 = 19) (tgt := 40) (by decide) (fun hb => ?_) (fun hb => ?_)
          · have h := h.1 hb
            refine hp_iload_n E hl 1 rfl 1 rfl dX6_isSpent_19 (rfl : 19 + 1 = 20) ?_
            refine hp_aload_n E hl 0 rfl 0 rfl dX6_isSpent_20 (rfl : 20 + 1 = 21) ?_
            refine hp_getR E hR in_X6 hc0 rfl 10 (Nat.le_of_ble_eq_true rfl) rfl q290 (fun _ h => h) dX6_isSpent_21 (rfl : 21 + 3 = 24) ?_
            obtain ⟨hc401, h⟩ := h
            refine hp_getRN E hR in_X1 hc401 rfl 7 (Nat.le_of_ble_eq_true rfl) rfl q323 (fun _ h => h) dX6_isSpent_24 (rfl : 24 + 3 = 27) ?_
            obtain ⟨hc402, h⟩ := h
            refine hp_getIN E hR in_X3 hc402 rfl 4 (Nat.le_of_ble_eq_true rfl) rfl q196 (fun _ h => h) dX6_isSpent_27 (rfl : 27 + 3 = 30) ?_
            refine hp_iconst E (1 : Int32) (by decide) dX6_isSpent_30 (rfl : 30 + 1 = 31) ?_
            refine hp_iadd E dX6_isSpent_31 (rfl : 31 + 1 = 32) ?_
            refine hp_imul E dX6_isSpent_32 (rfl : 32 + 1 = 33) ?_
            refine hp_istore_n E hl 1 rfl (lv' := [(0, hp_v B o), (2, .int v2)]) dX6_isSpent_33 (rfl : 33 + 1 = 34) (by decide) (by simp [hp_vc, hp_ci, hp_cj]) (fun ls hl => ?_)
            refine hp_iinc E hl (v2 + (1 : Int32)) 2 (lv' := [(1, .int (v1 * ((st_I Si (st_R Si (st_R Si o 10) 7) 4) + (1 : Int32)))), (0, hp_v B o)]) dX6_isSpent_34 (rfl : 34 + 3 = 37) rfl (by first | rfl | (congr 1)) (by decide) rfl (fun ls hl => ?_)
            refine hp_goto E (tgt := 4) dX6_isSpent_37 (by decide) ?_
            exact hK4 _ _ _ _ _ h (lv_sub hl [2, 1, 0] rfl) hR
          · have h := h.2 hb
            exact b40 _ _ _ _ h (lv_sub hl [1] rfl) hR
        · have h := h.2 hb
          exact b40 _ _ _ _ h (lv_sub hl [1] rfl) hR
    exact key4 (μ4 v1 v2 + 1) v1 v2 H locs ls (Nat.lt_succ_self _) hI hl hR
  unfold wp_X6_isSpent at h
  refine hp_iconst E (1 : Int32) (by decide) dX6_isSpent_0 (rfl : 0 + 1 = 1) ?_
  refine hp_istore_n E hl 1 rfl (lv' := [(0, hp_v B o)]) dX6_isSpent_1 (rfl : 1 + 1 = 2) (by decide) (by simp [hp_vc, hp_ci, hp_cj]) (fun ls hl => ?_)
  refine hp_iconst E (0 : Int32) (by decide) dX6_isSpent_2 (rfl : 2 + 1 = 3) ?_
  refine hp_istore_n E hl 2 rfl (lv' := [(1, .int (1 : Int32)), (0, hp_v B o)]) dX6_isSpent_3 (rfl : 3 + 1 = 4) (by decide) rfl (fun ls hl => ?_)
  exact b4 _ _ _ _ _ h (lv_sub hl [2, 1, 0] rfl) hR
