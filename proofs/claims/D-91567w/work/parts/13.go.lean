set_option maxRecDepth 100000
def wb_X6_go_129 (RW : Nat → Int32 → Int32 → Int32 → hp_St → (hp_St → Prop) → Prop) (o : Nat) (a1 : Int32) (a2 : Int32) (a3 : Int32) (v4 : Int32) (S : hp_St) (K129 : Int32 → hp_St → Prop) (Q : hp_St → Prop) : Prop := (((v4 < (st_I S o 5)) → (st_C S (st_R S o 3) = 50) ∧ (vp_in v4 (st_L S (st_R S o 3))) ∧ (st_C S (st_R S o 4) = 50) ∧ (vp_in v4 (st_L S (st_R S o 4))) ∧ (∀ S12905, S12905 = st_pI S (st_R S o 4) v4.toNatClampNeg (st_I S (st_R S o 3) v4.toNatClampNeg) → K129 (v4 + (1 : Int32)) S12905)) ∧ ((¬ (v4 < (st_I S o 5))) → Q S))
def wl_X6_go_129 (RW : Nat → Int32 → Int32 → Int32 → hp_St → (hp_St → Prop) → Prop) (o : Nat) (a1 : Int32) (a2 : Int32) (a3 : Int32) (v4 : Int32) (S : hp_St) (Q : hp_St → Prop) : Prop := ∃ (I : Int32 → hp_St → Prop) (μ : Int32 → hp_St → Nat), I v4 S ∧ ∀ (v4 : Int32) (S1 : hp_St), hp_mono S S1 → I v4 S1 → wb_X6_go_129 RW o a1 a2 a3 v4 S1 (fun v4' S2 => I v4' S2 ∧ μ v4' S2 < μ v4 S1) Q
def wb_X6_go_111 (RW : Nat → Int32 → Int32 → Int32 → hp_St → (hp_St → Prop) → Prop) (o : Nat) (a1 : Int32) (a2 : Int32) (a3 : Int32) (S : hp_St) (Q : hp_St → Prop) : Prop := (∀ S11101, S11101 = st_pI S o 9 (1 : Int32) → (∀ S11104, S11104 = st_pI S11101 o 7 a2 → (∀ S11107, S11107 = st_pI S11104 o 8 a3 → wl_X6_go_129 RW o a1 a2 a3 (0 : Int32) S11107 Q)))
def wb_X6_go_110 (RW : Nat → Int32 → Int32 → Int32 → hp_St → (hp_St → Prop) → Prop) (o : Nat) (a1 : Int32) (a2 : Int32) (a3 : Int32) (S : hp_St) (Q : hp_St → Prop) : Prop := Q S
def wb_X6_go_20 (RW : Nat → Int32 → Int32 → Int32 → hp_St → (hp_St → Prop) → Prop) (o : Nat) (a1 : Int32) (a2 : Int32) (a3 : Int32) (v4 : Int32) (S : hp_St) (K20 : Int32 → hp_St → Prop) (Q : hp_St → Prop) : Prop := (st_C S (st_R S o 10) = 1) ∧ (st_C S (st_R S (st_R S o 10) 7) = 3) ∧ (((v4 ≤ (st_I S (st_R S (st_R S o 10) 7) 4)) → (st_C S (st_R S o 3) = 50) ∧ (vp_in a1 (st_L S (st_R S o 3))) ∧ (∀ S2005, S2005 = st_pI S (st_R S o 3) a1.toNatClampNeg v4 → (st_C S2005 (st_R S2005 o 2) = 50) ∧ (vp_in a1 (st_L S2005 (st_R S2005 o 2))) ∧ (st_C S2005 (st_R S2005 o 1) = 50) ∧ (vp_in a1 (st_L S2005 (st_R S2005 o 1))) ∧ RW o (a1 + (1 : Int32)) (a2 + (v4 * (st_I S2005 (st_R S2005 o 2) a1.toNatClampNeg))) (a3 + (v4 * (st_I S2005 (st_R S2005 o 1) a1.toNatClampNeg))) S2005 (fun S2012 => hp_mono S2005 S2012 → K20 (v4 + (1 : Int32)) S2012))) ∧ ((¬ (v4 ≤ (st_I S (st_R S (st_R S o 10) 7) 4))) → Q S))
def wl_X6_go_20 (RW : Nat → Int32 → Int32 → Int32 → hp_St → (hp_St → Prop) → Prop) (o : Nat) (a1 : Int32) (a2 : Int32) (a3 : Int32) (v4 : Int32) (S : hp_St) (Q : hp_St → Prop) : Prop := ∃ (I : Int32 → hp_St → Prop) (μ : Int32 → hp_St → Nat), I v4 S ∧ ∀ (v4 : Int32) (S1 : hp_St), hp_mono S S1 → I v4 S1 → wb_X6_go_20 RW o a1 a2 a3 v4 S1 (fun v4' S2 => I v4' S2 ∧ μ v4' S2 < μ v4 S1) Q
def wpr_X6_go : Nat → Nat → Int32 → Int32 → Int32 → hp_St → (hp_St → Prop) → Prop
  | 0 => fun _ _ _ _ _ _ => False
  | f + 1 => fun o a1 a2 a3 S Q => (((a3 ≤ (st_I S o 6)) → (((a1 < (st_I S o 5)) → wl_X6_go_20 (wpr_X6_go f) o a1 a2 a3 (0 : Int32) S Q) ∧ ((¬ (a1 < (st_I S o 5))) → ((((st_I S o 9) = 0) → wb_X6_go_111 (wpr_X6_go f) o a1 a2 a3 S Q) ∧ ((¬ ((st_I S o 9) = 0)) → (((a2 < (st_I S o 7)) → wb_X6_go_110 (wpr_X6_go f) o a1 a2 a3 S Q) ∧ ((¬ (a2 < (st_I S o 7))) → (((a2 = (st_I S o 7)) → (((a3 < (st_I S o 8)) → wb_X6_go_111 (wpr_X6_go f) o a1 a2 a3 S Q) ∧ ((¬ (a3 < (st_I S o 8))) → wb_X6_go_110 (wpr_X6_go f) o a1 a2 a3 S Q))) ∧ ((¬ (a2 = (st_I S o 7))) → wb_X6_go_111 (wpr_X6_go f) o a1 a2 a3 S Q))))))))) ∧ ((¬ (a3 ≤ (st_I S o 6))) → Q S))
theorem nf_X6_go : hp_nf yX6_go 3 = true := by decide +kernel
set_option maxHeartbeats 4000000 in
theorem mr_X6_go {l : Launch} {B : Nat} {D : va_G} {s0 : State} {b0 : Nat} (G : hp_G l B D s0 b0) : ∀ (f : Nat) (o : Nat) (a1 : Int32) (a2 : Int32) (a3 : Int32) (Si : hp_St) (Q : hp_St → Prop) (hc0 : st_C Si o = 6) (h : wpr_X6_go f o a1 a2 a3 Si Q), hp_M l B D s0 yX6_go cX6_go 5 none (f + 4) (64 * (f + 4)) 0 0 [hp_v B o, .int a1, .int a2, .int a3] Si (hp_Qv B D s0 (fun S' => hp_mono Si S' ∧ Q S')) := by
  intro f
  induction f with
  | zero =>
    intro o a1 a2 a3 Si Q hc0 h
    exact h.elim
  | succ f ih =>
    intro o a1 a2 a3 Si Q hc0 h
    refine hp_start G (by decide +kernel) rfl rfl (lv := [(0, hp_v B o), (1, .int a1), (2, .int a2), (3, .int a3)]) (by simp [lg_sl, hp_vc, hp_ci, hp_cj]) (by simp [lv_args, hp_vc, hp_ci, hp_cj]) ?_
    intro p e s m args below meth c E ls hl hR
    have hm : hp_mono Si Si := hp_mono.rf
    generalize hH : s.heap = H at hR ⊢
    generalize hLo : ([] : List Loc) = locs at hR ⊢
    have b129 : ∀ (v4 : Int32) (S : hp_St) (H : Heap) (locs : List Loc) (ls : Array Slot), wl_X6_go_129 (wpr_X6_go f) o a1 a2 a3 v4 S Q → lv_has ls 5 [(0, hp_v B o), (4, .int v4)] → hp_S B D s0 S H locs → hp_mono Si S → W p l e ({ frames := (f + 1 + 4), cells := 0, slots := 0, locals := (64 * (f + 1 + 4)) } : Room) s m args below meth c H locs 0 0 (MQ below (hp_Qv B D s0 (fun S' => hp_mono Si S' ∧ Q S')) args s 0 0 (fun q => B < q)) (F0 m 129 ls []) := by
      intro v4 S H locs ls h hl hR hm
      obtain ⟨I129, μ129, hI, hst⟩ := h
      obtain ⟨Sa129, eSa129⟩ : ∃ x, x = S := ⟨_, rfl⟩
      subst eSa129
      have key129 : ∀ (N : Nat) (v4 : Int32) (Su129 : hp_St) (H : Heap) (locs : List Loc) (ls : Array Slot), μ129 v4 Su129 < N → I129 v4 Su129 → lv_has ls 5 [(0, hp_v B o), (4, .int v4)] → hp_S B D s0 Su129 H locs → hp_mono Sa129 Su129 → W p l e ({ frames := (f + 1 + 4), cells := 0, slots := 0, locals := (64 * (f + 1 + 4)) } : Room) s m args below meth c H locs 0 0 (MQ below (hp_Qv B D s0 (fun S' => hp_mono Si S' ∧ Q S')) args s 0 0 (fun q => B < q)) (F0 m 129 ls []) := by
        intro N
        induction N with
        | zero =>
          intro v4 Su129 H locs ls hN
          exact absurd hN (Nat.not_lt_zero _)
        | succ N ih129 =>
          intro v4 Su129 H locs ls hN hI hl hR ms129
          have h := hst v4 Su129 ms129 hI
          have hm := hp_mono.tr hm ms129
          obtain ⟨K129, hKe129⟩ : ∃ K : Int32 → hp_St → Prop, K = (fun v4' Sk => I129 v4' Sk ∧ μ129 v4' Sk < μ129 v4 Su129) := ⟨_, rfl⟩
          rw [← hKe129] at h
          have hK129 : ∀ (v4' : Int32) (Sk : hp_St) (H : Heap) (locs : List Loc) (ls : Array Slot), K129 v4' Sk → lv_has ls 5 [(0, hp_v B o), (4, .int (v4'))] → hp_S B D s0 Sk H locs → hp_mono Sa129 Sk → W p l e ({ frames := (f + 1 + 4), cells := 0, slots := 0, locals := (64 * (f + 1 + 4)) } : Room) s m args below meth c H locs 0 0 (MQ below (hp_Qv B D s0 (fun S' => hp_mono Si S' ∧ Q S')) args s 0 0 (fun q => B < q)) (F0 m 129 ls []) := by
            intro v4' Sk H locs ls hI hl hR ms
            rw [hKe129] at hI
            exact ih129 v4' Sk H locs ls (Nat.lt_of_lt_of_le hI.2 (Nat.le_of_lt_succ hN)) hI.1 hl hR ms
          unfold wb_X6_go_129 at h
          refine hp_iload E hl 1 rfl dX6_go_129 (rfl : 129 + 2 = 131) ?_
          refine hp_aload_n E hl 0 rfl 0 rfl dX6_go_131 (rfl : 131 + 1 = 132) ?_
          refine hp_getI E hR in_X6 (hp_mono.c hm hc0) rfl 5 (Nat.le_of_ble_eq_true rfl) rfl q283 (fun _ h => h) dX6_go_132 (rfl : 132 + 3 = 135) ?_
          refine hp_icmp_ge E dX6_go_135 (rfl : 135 + 3 = 138) (tgt := 158) (by decide) (fun hb => ?_) (fun hb => ?_)
          · have h := h.1 hb
            refine hp_aload_n E hl 0 rfl 0 rfl dX6_go_138 (rfl : 138 + 1 = 139) ?_
            refine hp_getR E hR in_X6 (hp_mono.c hm hc0) rfl 4 (Nat.le_of_ble_eq_true rfl) rfl q281 (fun _ h => h) dX6_go_139 (rfl : 139 + 3 = 142) ?_
            refine hp_iload E hl 1 rfl dX6_go_142 (rfl : 142 + 2 = 144) ?_
            refine hp_aload_n E hl 0 rfl 0 rfl dX6_go_144 (rfl : 144 + 1 = 145) ?_
            refine hp_getR E hR in_X6 (hp_mono.c hm hc0) rfl 3 (Nat.le_of_ble_eq_true rfl) rfl q280 (fun _ h => h) dX6_go_145 (rfl : 145 + 3 = 148) ?_
            refine hp_iload E hl 1 rfl dX6_go_148 (rfl : 148 + 2 = 150) ?_
            obtain ⟨hc12901, h⟩ := h
            obtain ⟨hi12902, h⟩ := h
            refine hp_iald E hR hc12901 hi12902 dX6_go_150 (rfl : 150 + 1 = 151) ?_
            obtain ⟨hc12903, h⟩ := h
            obtain ⟨hi12904, h⟩ := h
            refine hx_iast E hR hc12903 hi12904 dX6_go_151 (rfl : 151 + 1 = 152) (fun S12905 H locs e12907 hm12906 hR => ?_)
            have h := h S12905 e12907
            have hm := hp_mono.tr hm hm12906
            have ms129 := hp_mono.tr ms129 hm12906
            refine hp_iinc E hl (v4 + (1 : Int32)) 1 (lv' := [(0, hp_v B o)]) dX6_go_152 (rfl : 152 + 3 = 155) rfl (by first | rfl | (congr 1)) (by decide) rfl (fun ls hl => ?_)
            refine hp_goto E (tgt := 129) dX6_go_155 (by decide) ?_
            exact hK129 _ _ _ _ _ h (lv_sub hl [1, 0] rfl) hR ms129
          · have h := h.2 hb
            exact hp_vret E hR ⟨hm, h⟩ (Nat.le_of_ble_eq_true rfl) (Nat.le_of_ble_eq_true rfl) dX6_go_158
      exact key129 (μ129 v4 Sa129 + 1) v4 _ H locs ls (Nat.lt_succ_self _) hI hl hR hp_mono.rf
    have b111 : ∀ (S : hp_St) (H : Heap) (locs : List Loc) (ls : Array Slot), wb_X6_go_111 (wpr_X6_go f) o a1 a2 a3 S Q → lv_has ls 5 [(0, hp_v B o), (2, .int a2), (3, .int a3)] → hp_S B D s0 S H locs → hp_mono Si S → W p l e ({ frames := (f + 1 + 4), cells := 0, slots := 0, locals := (64 * (f + 1 + 4)) } : Room) s m args below meth c H locs 0 0 (MQ below (hp_Qv B D s0 (fun S' => hp_mono Si S' ∧ Q S')) args s 0 0 (fun q => B < q)) (F0 m 111 ls []) := by
      intro S H locs ls h hl hR hm
      unfold wb_X6_go_111 at h
      refine hp_aload_n E hl 0 rfl 0 rfl dX6_go_111 (rfl : 111 + 1 = 112) ?_
      refine hp_iconst E (1 : Int32) (by decide) dX6_go_112 (rfl : 112 + 1 = 113) ?_
      refine hx_putI E hR in_X6 tyX6 tyX6_ok nmX6 (hp_mono.c hm hc0) rfl 9 (Nat.le_of_ble_eq_true rfl) rfl q289 (fun _ h => h) (Or.inl rfl) (Or.inr ⟨rfl, (Or.inr rfl)⟩) dX6_go_113 (rfl : 113 + 3 = 116) (fun S11101 H locs e11103 hm11102 hR => ?_)
      have h := h S11101 e11103
      have hm := hp_mono.tr hm hm11102
      refine hp_aload_n E hl 0 rfl 0 rfl dX6_go_116 (rfl : 116 + 1 = 117) ?_
      refine hp_iload_n E hl 2 rfl 1 rfl dX6_go_117 (rfl : 117 + 1 = 118) ?_
      refine hx_putI E hR in_X6 tyX6 tyX6_ok nmX6 (hp_mono.c hm hc0) rfl 7 (Nat.le_of_ble_eq_true rfl) rfl q286 (fun _ h => h) (Or.inl rfl) (Or.inl rfl) dX6_go_118 (rfl : 118 + 3 = 121) (fun S11104 H locs e11106 hm11105 hR => ?_)
      have h := h S11104 e11106
      have hm := hp_mono.tr hm hm11105
      refine hp_aload_n E hl 0 rfl 0 rfl dX6_go_121 (rfl : 121 + 1 = 122) ?_
      refine hp_iload_n E hl 3 rfl 2 rfl dX6_go_122 (rfl : 122 + 1 = 123) ?_
      refine hx_putI E hR in_X6 tyX6 tyX6_ok nmX6 (hp_mono.c hm hc0) rfl 8 (Nat.le_of_ble_eq_true rfl) rfl q288 (fun _ h => h) (Or.inl rfl) (Or.inl rfl) dX6_go_123 (rfl : 123 + 3 = 126) (fun S11107 H locs e11109 hm11108 hR => ?_)
      have h := h S11107 e11109
      have hm := hp_mono.tr hm hm11108
      refine hp_iconst E (0 : Int32) (by decide) dX6_go_126 (rfl : 126 + 1 = 127) ?_
      refine hp_istore E hl 4 (lv' := [(0, hp_v B o), (2, .int a2), (3, .int a3)]) dX6_go_127 (rfl : 127 + 2 = 129) (by decide) rfl (fun ls hl => ?_)
      exact b129 _ _ _ _ _ h (lv_sub hl [1, 0] rfl) hR hm
    have b110 : ∀ (S : hp_St) (H : Heap) (locs : List Loc) (ls : Array Slot), wb_X6_go_110 (wpr_X6_go f) o a1 a2 a3 S Q → lv_has ls 5 [] → hp_S B D s0 S H locs → hp_mono Si S → W p l e ({ frames := (f + 1 + 4), cells := 0, slots := 0, locals := (64 * (f + 1 + 4)) } : Room) s m args below meth c H locs 0 0 (MQ below (hp_Qv B D s0 (fun S' => hp_mono Si S' ∧ Q S')) args s 0 0 (fun q => B < q)) (F0 m 110 ls []) := by
      intro S H locs ls h hl hR hm
      unfold wb_X6_go_110 at h
      exact hp_vret E hR ⟨hm, h⟩ (Nat.le_of_ble_eq_true rfl) (Nat.le_of_ble_eq_true rfl) dX6_go_110
    have b20 : ∀ (v4 : Int32) (S : hp_St) (H : Heap) (locs : List Loc) (ls : Array Slot), wl_X6_go_20 (wpr_X6_go f) o a1 a2 a3 v4 S Q → lv_has ls 5 [(0, hp_v B o), (1, .int a1), (2, .int a2), (3, .int a3), (4, .int v4)] → hp_S B D s0 S H locs → hp_mono Si S → W p l e ({ frames := (f + 1 + 4), cells := 0, slots := 0, locals := (64 * (f + 1 + 4)) } : Room) s m args below meth c H locs 0 0 (MQ below (hp_Qv B D s0 (fun S' => hp_mono Si S' ∧ Q S')) args s 0 0 (fun q => B < q)) (F0 m 20 ls []) := by
      intro v4 S H locs ls h hl hR hm
      obtain ⟨I20, μ20, hI, hst⟩ := h
      obtain ⟨Sa20, eSa20⟩ : ∃ x, x = S := ⟨_, rfl⟩
      subst eSa20
      have key20 : ∀ (N : Nat) (v4 : Int32) (Su20 : hp_St) (H : Heap) (locs : List Loc) (ls : Array Slot), μ20 v4 Su20 < N → I20 v4 Su20 → lv_has ls 5 [(0, hp_v B o), (1, .int a1), (2, .int a2), (3, .int a3), (4, .int v4)] → hp_S B D s0 Su20 H locs → hp_mono Sa20 Su20 → W p l e ({ frames := (f + 1 + 4), cells := 0, slots := 0, locals := (64 * (f + 1 + 4)) } : Room) s m args below meth c H locs 0 0 (MQ below (hp_Qv B D s0 (fun S' => hp_mono Si S' ∧ Q S')) args s 0 0 (fun q => B < q)) (F0 m 20 ls []) := by
        intro N
        induction N with
        | zero =>
          intro v4 Su20 H locs ls hN
          exact absurd hN (Nat.not_lt_zero _)
        | succ N ih20 =>
          intro v4 Su20 H locs ls hN hI hl hR ms20
          have h := hst v4 Su20 ms20 hI
          have hm := hp_mono.tr hm ms20
          obtain ⟨K20, hKe20⟩ : ∃ K : Int32 → hp_St → Prop, K = (fun v4' Sk => I20 v4' Sk ∧ μ20 v4' Sk < μ20 v4 Su20) := ⟨_, rfl⟩
          rw [← hKe20] at h
          have hK20 : ∀ (v4' : Int32) (Sk : hp_St) (H : Heap) (locs : List Loc) (ls : Array Slot), K20 v4' Sk → lv_has ls 5 [(0, hp_v B o), (1, .int a1), (2, .int a2), (3, .int a3), (4, .int (v4'))] → hp_S B D s0 Sk H locs → hp_mono Sa20 Sk → W p l e ({ frames := (f + 1 + 4), cells := 0, slots := 0, locals := (64 * (f + 1 + 4)) } : Room) s m args below meth c H locs 0 0 (MQ below (hp_Qv B D s0 (fun S' => hp_mono Si S' ∧ Q S')) args s 0 0 (fun q => B < q)) (F0 m 20 ls []) := by
            intro v4' Sk H locs ls hI hl hR ms
            rw [hKe20] at hI
            exact ih20 v4' Sk H locs ls (Nat.lt_of_lt_of_le hI.2 (Nat.le_of_lt_succ hN)) hI.1 hl hR ms
          unfold wb_X6_go_20 at h
          refine hp_iload E hl 4 rfl dX6_go_20 (rfl : 20 + 2 = 22) ?_
          refine hp_aload_n E hl 0 rfl 0 rfl dX6_go_22 (rfl : 22 + 1 = 23) ?_
          refine hp_getR E hR in_X6 (hp_mono.c hm hc0) rfl 10 (Nat.le_of_ble_eq_true rfl) rfl q290 (fun _ h => h) dX6_go_23 (rfl : 23 + 3 = 26) ?_
          obtain ⟨hc2001, h⟩ := h
          refine hp_getRN E hR in_X1 hc2001 rfl 7 (Nat.le_of_ble_eq_true rfl) rfl q323 (fun _ h => h) dX6_go_26 (rfl : 26 + 3 = 29) ?_
          obtain ⟨hc2002, h⟩ := h
          refine hp_getIN E hR in_X3 hc2002 rfl 4 (Nat.le_of_ble_eq_true rfl) rfl q196 (fun _ h => h) dX6_go_29 (rfl : 29 + 3 = 32) ?_
          refine hp_icmp_gt E dX6_go_32 (rfl : 32 + 3 = 35) (tgt := 78) (by decide) (fun hb => ?_) (fun hb => ?_)
          · have h := h.1 hb
            refine hp_aload_n E hl 0 rfl 0 rfl dX6_go_35 (rfl : 35 + 1 = 36) ?_
            refine hp_getR E hR in_X6 (hp_mono.c hm hc0) rfl 3 (Nat.le_of_ble_eq_true rfl) rfl q280 (fun _ h => h) dX6_go_36 (rfl : 36 + 3 = 39) ?_
            refine hp_iload_n E hl 1 rfl 1 rfl dX6_go_39 (rfl : 39 + 1 = 40) ?_
            refine hp_iload E hl 4 rfl dX6_go_40 (rfl : 40 + 2 = 42) ?_
            obtain ⟨hc2003, h⟩ := h
            obtain ⟨hi2004, h⟩ := h
            refine hx_iast E hR hc2003 hi2004 dX6_go_42 (rfl : 42 + 1 = 43) (fun S2005 H locs e2007 hm2006 hR => ?_)
            have h := h S2005 e2007
            have hm := hp_mono.tr hm hm2006
            have ms20 := hp_mono.tr ms20 hm2006
            refine hp_aload_n E hl 0 rfl 0 rfl dX6_go_43 (rfl : 43 + 1 = 44) ?_
            refine hp_iload_n E hl 1 rfl 1 rfl dX6_go_44 (rfl : 44 + 1 = 45) ?_
            refine hp_iconst E (1 : Int32) (by decide) dX6_go_45 (rfl : 45 + 1 = 46) ?_
            refine hp_iadd E dX6_go_46 (rfl : 46 + 1 = 47) ?_
            refine hp_iload_n E hl 2 rfl 2 rfl dX6_go_47 (rfl : 47 + 1 = 48) ?_
            refine hp_iload E hl 4 rfl dX6_go_48 (rfl : 48 + 2 = 50) ?_
            refine hp_aload_n E hl 0 rfl 0 rfl dX6_go_50 (rfl : 50 + 1 = 51) ?_
            refine hp_getR E hR in_X6 (hp_mono.c hm hc0) rfl 2 (Nat.le_of_ble_eq_true rfl) rfl q279 (fun _ h => h) dX6_go_51 (rfl : 51 + 3 = 54) ?_
            refine hp_iload_n E hl 1 rfl 1 rfl dX6_go_54 (rfl : 54 + 1 = 55) ?_
            obtain ⟨hc2008, h⟩ := h
            obtain ⟨hi2009, h⟩ := h
            refine hp_iald E hR hc2008 hi2009 dX6_go_55 (rfl : 55 + 1 = 56) ?_
            refine hp_imul E dX6_go_56 (rfl : 56 + 1 = 57) ?_
            refine hp_iadd E dX6_go_57 (rfl : 57 + 1 = 58) ?_
            refine hp_iload_n E hl 3 rfl 3 rfl dX6_go_58 (rfl : 58 + 1 = 59) ?_
            refine hp_iload E hl 4 rfl dX6_go_59 (rfl : 59 + 2 = 61) ?_
            refine hp_aload_n E hl 0 rfl 0 rfl dX6_go_61 (rfl : 61 + 1 = 62) ?_
            refine hp_getR E hR in_X6 (hp_mono.c hm hc0) rfl 1 (Nat.le_of_ble_eq_true rfl) rfl q278 (fun _ h => h) dX6_go_62 (rfl : 62 + 3 = 65) ?_
            refine hp_iload_n E hl 1 rfl 1 rfl dX6_go_65 (rfl : 65 + 1 = 66) ?_
            obtain ⟨hc2010, h⟩ := h
            obtain ⟨hi2011, h⟩ := h
            refine hp_iald E hR hc2010 hi2011 dX6_go_66 (rfl : 66 + 1 = 67) ?_
            refine hp_imul E dX6_go_67 (rfl : 67 + 1 = 68) ?_
            refine hp_iadd E dX6_go_68 (rfl : 68 + 1 = 69) ?_
            refine hp_fv (hp_rV E hR hl (ih _ _ _ _ _ _ (hp_mono.c hm hc0) h) (hp_mono.c hm hc0) (ci := 5) rfl rfl q1132 q1129 q1130 q81 q1131 nf_X6_go ⟨Nat.le_refl _, by show 8 + (5 + 11) + 64 * (f + 4) ≤ 64 * (f + 1 + 4); omega⟩ (rest := []) rfl (Nat.le_of_ble_eq_true rfl) dX6_go_69 ⟨Nat.le_of_ble_eq_true rfl, Nat.le_of_ble_eq_true rfl⟩) hR (rfl : 69 + 3 = 72) (fun S2012 H locs hq hR => ?_)
            obtain ⟨hm2013, h⟩ := hq
            have h := h hm2013
            have hm := hp_mono.tr hm hm2013
            have ms20 := hp_mono.tr ms20 hm2013
            refine hp_iinc E hl (v4 + (1 : Int32)) 4 (lv' := [(0, hp_v B o), (1, .int a1), (2, .int a2), (3, .int a3)]) dX6_go_72 (rfl : 72 + 3 = 75) rfl (by first | rfl | (congr 1)) (by decide) rfl (fun ls hl => ?_)
            refine hp_goto E (tgt := 20) dX6_go_75 (by decide) ?_
            exact hK20 _ _ _ _ _ h (lv_sub hl [1, 2, 3, 4, 0] rfl) hR ms20
          · have h := h.2 hb
            exact hp_vret E hR ⟨hm, h⟩ (Nat.le_of_ble_eq_true rfl) (Nat.le_of_ble_eq_true rfl) dX6_go_78
      exact key20 (μ20 v4 Sa20 + 1) v4 _ H locs ls (Nat.lt_succ_self _) hI hl hR hp_mono.rf
    unfold wpr_X6_go at h
    refine hp_iload_n E hl 3 rfl 3 rfl dX6_go_0 (rfl : 0 + 1 = 1) ?_
    refine hp_aload_n E hl 0 rfl 0 rfl dX6_go_1 (rfl : 1 + 1 = 2) ?_
    refine hp_getI E hR in_X6 hc0 rfl 6 (Nat.le_of_ble_eq_true rfl) rfl q285 (fun _ h => h) dX6_go_2 (rfl : 2 + 3 = 5) ?_
    refine hp_icmp_le E dX6_go_5 (rfl : 5 + 3 = 8) (tgt := 9) (by decide) (fun hb => ?_) (fun hb => ?_)
    · have h := h.1 hb
      refine hp_iload_n E hl 1 rfl 1 rfl dX6_go_9 (rfl : 9 + 1 = 10) ?_
      refine hp_aload_n E hl 0 rfl 0 rfl dX6_go_10 (rfl : 10 + 1 = 11) ?_
      refine hp_getI E hR in_X6 hc0 rfl 5 (Nat.le_of_ble_eq_true rfl) rfl q283 (fun _ h => h) dX6_go_11 (rfl : 11 + 3 = 14) ?_
      refine hp_icmp_ge E dX6_go_14 (rfl : 14 + 3 = 17) (tgt := 79) (by decide) (fun hb => ?_) (fun hb => ?_)
      · have h := h.1 hb
        refine hp_iconst E (0 : Int32) (by decide) dX6_go_17 (rfl : 17 + 1 = 18) ?_
        refine hp_istore E hl 4 (lv' := [(0, hp_v B o), (1, .int a1), (2, .int a2), (3, .int a3)]) dX6_go_18 (rfl : 18 + 2 = 20) (by decide) rfl (fun ls hl => ?_)
        exact b20 _ _ _ _ _ h (lv_sub hl [1, 2, 3, 4, 0] rfl) hR hm
      · have h := h.2 hb
        refine hp_aload_n E hl 0 rfl 0 rfl dX6_go_79 (rfl : 79 + 1 = 80) ?_
        refine hp_getI E hR in_X6 hc0 rfl 9 (Nat.le_of_ble_eq_true rfl) rfl q289 (fun _ h => h) dX6_go_80 (rfl : 80 + 3 = 83) ?_
        refine hp_if_eq E dX6_go_83 (rfl : 83 + 3 = 86) (tgt := 111) (by decide) (fun hb => ?_) (fun hb => ?_)
        · have h := h.1 hb
          exact b111 _ _ _ _ h (lv_sub hl [0, 2, 3] rfl) hR hm
        · have h := h.2 hb
          refine hp_iload_n E hl 2 rfl 2 rfl dX6_go_86 (rfl : 86 + 1 = 87) ?_
          refine hp_aload_n E hl 0 rfl 0 rfl dX6_go_87 (rfl : 87 + 1 = 88) ?_
          refine hp_getI E hR in_X6 hc0 rfl 7 (Nat.le_of_ble_eq_true rfl) rfl q286 (fun _ h => h) dX6_go_88 (rfl : 88 + 3 = 91) ?_
          refine hp_icmp_lt E dX6_go_91 (rfl : 91 + 3 = 94) (tgt := 110) (by decide) (fun hb => ?_) (fun hb => ?_)
          · have h := h.1 hb
            exact b110 _ _ _ _ h (lv_sub hl [] rfl) hR hm
          · have h := h.2 hb
            refine hp_iload_n E hl 2 rfl 2 rfl dX6_go_94 (rfl : 94 + 1 = 95) ?_
            refine hp_aload_n E hl 0 rfl 0 rfl dX6_go_95 (rfl : 95 + 1 = 96) ?_
            refine hp_getI E hR in_X6 hc0 rfl 7 (Nat.le_of_ble_eq_true rfl) rfl q286 (fun _ h => h) dX6_go_96 (rfl : 96 + 3 = 99) ?_
            refine hp_icmp_ne E dX6_go_99 (rfl : 99 + 3 = 102) (tgt := 111) (by decide) (fun hb => ?_) (fun hb => ?_)
            · have h := h.1 hb
              refine hp_iload_n E hl 3 rfl 3 rfl dX6_go_102 (rfl : 102 + 1 = 103) ?_
              refine hp_aload_n E hl 0 rfl 0 rfl dX6_go_103 (rfl : 103 + 1 = 104) ?_
              refine hp_getI E hR in_X6 hc0 rfl 8 (Nat.le_of_ble_eq_true rfl) rfl q288 (fun _ h => h) dX6_go_104 (rfl : 104 + 3 = 107) ?_
              refine hp_icmp_lt E dX6_go_107 (rfl : 107 + 3 = 110) (tgt := 111) (by decide) (fun hb => ?_) (fun hb => ?_)
              · have h := h.1 hb
                exact b111 _ _ _ _ h (lv_sub hl [0, 2, 3] rfl) hR hm
              · have h := h.2 hb
                exact b110 _ _ _ _ h (lv_sub hl [] rfl) hR hm
            · have h := h.2 hb
              exact b111 _ _ _ _ h (lv_sub hl [0, 2, 3] rfl) hR hm
    · have h := h.2 hb
      exact hp_vret E hR ⟨hm, h⟩ (Nat.le_of_ble_eq_true rfl) (Nat.le_of_ble_eq_true rfl) dX6_go_8
def wp_X6_go (o : Nat) (a1 : Int32) (a2 : Int32) (a3 : Int32) (S : hp_St) (Q : hp_St → Prop) : Prop := wpr_X6_go 13 o a1 a2 a3 S Q
theorem m_X6_go {l : Launch} {B : Nat} {D : va_G} {s0 : State} {b0 : Nat} (G : hp_G l B D s0 b0) (o : Nat) (a1 : Int32) (a2 : Int32) (a3 : Int32) (Si : hp_St) (Q : hp_St → Prop) (hc0 : st_C Si o = 6) (h : wp_X6_go o a1 a2 a3 Si Q) : hp_M l B D s0 yX6_go cX6_go 5 none 17 1088 0 0 [hp_v B o, .int a1, .int a2, .int a3] Si (hp_Qv B D s0 (fun S' => hp_mono Si S' ∧ Q S')) := mr_X6_go G 13 o a1 a2 a3 Si Q hc0 h

