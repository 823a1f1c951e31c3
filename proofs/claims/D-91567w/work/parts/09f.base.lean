/-! BASE 9: the fault's constructors -/
set_option maxRecDepth 100000
section HPFX
variable {p : Program} {l : Launch} {e : Env} {R : Room} {s : State} {m : MethodId} {args : Array Value} {below : List Frame} {meth : Method} {c : Code} {H : Heap} {locs : List Loc} {cells slots : Nat} {Q : State → Prop}
variable {B : Nat} {D : va_G} {s0 : State} {S : hp_St} {cc : ByteArray} {own nm : String} {nL : Nat} {ret : Option FieldType} {pc pc' : Nat} {ls : Array Slot} {rest : List Value} {lv : List (Nat × Value)}
/-- a field of Throwable in a Fault: nothing that the state tells -/
theorem hp_putX (E : hp_E B D s0 p s m args meth c cc own nm nL ret) (hR : hp_S B D s0 S H locs) {n index : Nat} (hc : st_C S n = 8) (k : Nat) (hk : k < 6) (hlink : Cond.fieldLink own index "java/lang/Throwable" (TX8 k).2.1 (TX8 k).2.2.1 ∈ lw_all) (hsame : ∀ x, s.fieldFound? (TX8 k).1 (TX8 k).2.1 (TX8 k).2.2.1 = some x → s.fieldFound? "java/lang/Throwable" (TX8 k).2.1 (TX8 k).2.2.1 = some x) (hfin : (TX8 k).2.2.2 = false) {v : Value} (hn : narrow (tyX8 k) v = v) (hfit : fits (tyX8 k) v = true) (hdg : decode cc pc = .ok (.putfield index, 3)) (hp : pc + 3 = pc')
    (kk : ∀ (H1 : Heap) (locs1 : List Loc), hp_S B D s0 S H1 locs1 → W p l e R s m args below meth c H1 locs1 cells slots Q (F0 m pc' ls rest)) : W p l e R s m args below meth c H locs cells slots Q (F0 m pc ls (v :: hp_v B n :: rest)) := by
  subst hp
  have hK7 := E.K.1 7 _ rfl
  have hK17 := E.K.1 17 _ rfl
  have hap : ∀ x y, x < 8 → y < 8 → x ≠ y → (D.2 17) x ≠ (D.2 17) y := va_apart (own := own) (cl := hp_cl) E.all in_X8 tyX8 tyX8_ok nmX8 E.K rfl
  obtain ⟨hn0, cell, q1, q2, q3, q4⟩ := hR.ob (ci := 7) hc rfl
  obtain ⟨c0, g0, z0⟩ := hR.big hc
  cases g0.symm.trans q1
  have hc17 : D.1 17 = D.1 7 := Option.some.inj (hK17.2.1.symm.trans hK7.2.1)
  have hsl7 : ∀ j, j < 2 → D.2 7 j = D.2 17 (6 + j) := by
    intro j hj
    obtain ⟨cf, kf, fi, f, hi, hs⟩ := hK7.1 j hj
    obtain ⟨cf', kf', fi', f', hi', hs'⟩ := hK17.1 (6 + j) (show 6 + j < 8 by omega)
    have e9 : TX8 (6 + j) = TN8 j := by
      rcases (by omega : j = 0 ∨ j = 1) with rfl | rfl <;> rfl
    have hi'' : s.fieldFound? (TN8 j).1 (TN8 j).2.1 (TN8 j).2.2.1 = some (cf', kf', fi', f') := by rw [← e9]; exact hi'
    cases hi.symm.trans hi''
    exact hs.symm.trans hs'
  rw [hp_vp hn0]
  obtain ⟨hS, hfc, kC, hkC, hkind⟩ := hK17
  obtain ⟨cf, kf, fi, f, hi, hsl⟩ := hS k (show k < 8 by omega)
  have hlay := u_lays E.all in_X8 (show k < 8 by omega)
  have hlay1 := E.all _ (in_X8 _ (u_in_lay (show k < 8 by omega)))
  unfold u_lay at hlay1
  have hst := (u_facts hfc hkC hlay hi).1
  have hlt : f.slot < cell.slots.size := by rw [hsl]; exact z0 k (by omega)
  have go : ∀ H' : Heap, H'[B + n]? = some (cell.setSlot f.slot v) → H'.size = H.size → (∀ q, q ≠ B + n → H'[q]? = H[q]?) → W p l e R s m args below meth c H' (locs ++ [⟨B + n, f.slot⟩]) cells slots Q { F0 m pc ls (v :: .ref (B + n) :: rest) with pc := (F0 m pc ls (v :: .ref (B + n) :: rest)).pc + 3, stack := rest } := by
    intro H' e1 e2 e3
    refine kk H' _ (hR.upd (n := n) (by omega) rfl rfl rfl (fun _ _ => ⟨fun _ => rfl, fun _ => rfl, fun _ => rfl⟩) ?_ e2 e3 _)
    unfold hp_ck
    rw [hc, if_pos (by decide)]
    refine ⟨_, rfl, ⟨_, e1, q2, q3, fun j hj => ?_⟩, fun _ => ⟨_, e1, fun j hj => by
          have := z0 j hj
          simpa [Cell.setSlot] using this⟩⟩
    have hj2 : j < 2 := hj
    have h4 := q4 j hj
    have hne : f.slot ≠ D.2 7 j := by
      rw [hsl, hsl7 j hj2]
      exact hap k (6 + j) (by omega) (by omega) (by omega)
    show (cell.setSlot f.slot v).slots[D.2 7 j]? = _
    have h5 : (cell.setSlot f.slot v).slots[D.2 7 j]? = cell.slots[D.2 7 j]? := by simp [Cell.setSlot, Array.getElem?_setIfInBounds, hne]
    rw [h5]
    exact h4
  rw [if_neg (by rw [hfin]; decide)] at hlay1
  have h6 := u_store hfc hkC hkind hlay1 hi (tyX8_ok k (by omega)) hn hfit
  exact W.putK E.x E.b (f := f) ⟨E.o, E.w hlink, ⟨_, _, _, hsame _ hi⟩, hst⟩ (by rw [q2, ← hc17]; exact h6) q1 q3 hlt rfl rfl hdg go
/-- a static that holds null or some reference -/
theorem hp_getZ {b0 : Nat} (G : hp_G l B D s0 b0) (E : hp_E B D s0 p s m args meth c cc "java/lang/Throwable" nm nL ret) (hR : hp_S B D s0 S H locs) {H0 : Heap} (hH0 : s.heap = H0) (hlow : ∀ q, q ≤ B → H0[q]? = s0.heap[q]?) (hsz0 : H0.size ≤ H.size) {n d : String} {index : Nat} (h1 : (Cond.laysStatic Bundle.tN n d) ∈ lw_tbl) (h3 : hp_ni (Cond.isRef (.static Bundle.tN n d)) = true) (hlink : Cond.fieldLink "java/lang/Throwable" index "java/lang/Throwable" n d ∈ lw_all) (hdg : decode cc pc = .ok (.getstatic index, 3)) (hp : pc + 3 = pc')
    (kk : ∀ v : Value, (v = .null ∨ ∃ t, v = .ref t) → W p l e R s m args below meth c H locs cells slots Q (F0 m pc' ls (v :: rest))) : W p l e R s m args below meth c H locs cells slots Q (F0 m pc ls rest) := by
  subst hp
  have hS : va_S (fun q => B < q) s.heap H locs := ⟨by rw [hH0]; exact hsz0, fun q hq hA => by
    have hq2 : q ≤ B := by omega
    rw [hR.2.1 q hq2, hH0]
    exact (hlow q hq2).symm, hR.2.2⟩
  have hZ := (hp_Zq G h1 (lw_all_tbl q87) h3 E.W (by rw [hH0]; exact hlow)).1
  rcases hZ with hZ | ⟨t, hZ⟩
  · exact va_gets E.x E.b hZ hS E.o (E.w hlink) (fun _ h => h) hdg (kk _ (Or.inl rfl))
  · exact va_gets E.x E.b hZ hS E.o (E.w hlink) (fun _ h => h) hdg (kk _ (Or.inr ⟨t, rfl⟩))
theorem hp_anyR {ty : FieldType} {v : Value} (h : ty.isReference = true) (hv : v = .null ∨ ∃ t, v = .ref t) : narrow ty v = v ∧ fits ty v = true := by
  rcases hv with rfl | ⟨t, rfl⟩ <;> cases ty <;> first | exact ⟨rfl, rfl⟩ | cases h
end HPFX
theorem nf_J7_init_2 : hp_nf yJ7_init_2 4 = true := by decide +kernel
theorem nf_J8_init : hp_nf yJ8_init 4 = true := by decide +kernel
theorem hp_i0 {x : Int32} : Value.category (.int x) = 1 := rfl
set_option maxHeartbeats 4000000 in
theorem m_J7_init_2 {l : Launch} {B : Nat} {D : va_G} {s0 : State} {b0 : Nat} (G : hp_G l B D s0 b0) (o : Nat) (Si : hp_St) (hc0 : st_C Si o = 8) : hp_M l B D s0 yJ7_init_2 cJ7_init_2 5 none 2 128 0 0 [hp_v B o, hp_v B 0, hp_v B 0, .int 0, .int 0] Si (hp_Qv B D s0 (fun S' => S' = Si)) := by
  refine hp_start G (by decide +kernel) rfl rfl (lv := [(0, hp_v B o), (1, hp_v B 0), (2, hp_v B 0), (3, .int 0), (4, .int 0)]) (by simp [lg_sl, hp_vc, hp_ci, hp_cj]) (by simp [lv_args, hp_vc, hp_ci, hp_cj]) ?_
  intro p e s m args below meth c E ls hl hR
  obtain ⟨H0, hH0⟩ : ∃ H0, s.heap = H0 := ⟨_, rfl⟩
  rw [hH0] at hR ⊢
  have hlow := hR.2.1
  have hs0 := hR.1.1
  refine hp_aload_n E hl 0 rfl 0 rfl dJ7_init_2_0 (rfl : 0 + 1 = 1) ?_
  refine hp_obj E hl (hp_ne hR hc0) q497 q115 q116 dJ7_init_2_1 (rfl : 1 + 3 = 4) (Nat.le_of_ble_eq_true rfl) (Nat.le_of_ble_eq_true rfl) (Nat.le_of_ble_eq_true rfl) ?_
  refine hp_aload_n E hl 0 rfl 0 rfl dJ7_init_2_4 (rfl : 4 + 1 = 5) ?_
  refine hp_aload_n E hl 0 rfl 0 rfl dJ7_init_2_5 (rfl : 5 + 1 = 6) ?_
  refine hp_putX E hR hc0 0 (by decide) q529 (fun _ h => h) rfl (hp_nR rfl).1 (hp_nR rfl).2 dJ7_init_2_6 (rfl : 6 + 3 = 9) (fun H locs hR => ?_)
  have hsz : H0.size ≤ H.size := by rw [hs0, hR.1.1]; exact Nat.le_refl _
  refine hp_aload_n E hl 0 rfl 0 rfl dJ7_init_2_9 (rfl : 9 + 1 = 10) ?_
  refine hp_getZ G E hR hH0 hlow hsz q499 hp_s1 q498 dJ7_init_2_10 (rfl : 10 + 3 = 13) (fun v hv => ?_)
  refine hp_putX E hR hc0 1 (by decide) q530 (fun _ h => h) rfl (hp_anyR rfl hv).1 (hp_anyR rfl hv).2 dJ7_init_2_13 (rfl : 13 + 3 = 16) (fun H locs hR => ?_)
  have hsz : H0.size ≤ H.size := by rw [hs0, hR.1.1]; exact Nat.le_refl _
  refine hp_aload_n E hl 0 rfl 0 rfl dJ7_init_2_16 (rfl : 16 + 1 = 17) ?_
  refine hp_getZ G E hR hH0 hlow hsz q501 hp_s2 q500 dJ7_init_2_17 (rfl : 17 + 3 = 20) (fun v hv => ?_)
  refine hp_putX E hR hc0 2 (by decide) q531 (fun _ h => h) rfl (hp_anyR rfl hv).1 (hp_anyR rfl hv).2 dJ7_init_2_20 (rfl : 20 + 3 = 23) (fun H locs hR => ?_)
  refine hp_iload E hl 4 rfl dJ7_init_2_23 (rfl : 23 + 2 = 25) ?_
  refine hp_if_eq E dJ7_init_2_25 (rfl : 25 + 3 = 28) (tgt := 36) (by decide) (fun hb => ?_) (fun hb => absurd rfl hb)
  refine hp_aload_n E hl 0 rfl 0 rfl dJ7_init_2_36 (rfl : 36 + 1 = 37) ?_
  refine hp_null E dJ7_init_2_37 (rfl : 37 + 1 = 38) ?_
  refine hp_putX E hR hc0 1 (by decide) q530 (fun _ h => h) rfl (hp_nR rfl).1 (hp_nR rfl).2 dJ7_init_2_38 (rfl : 38 + 3 = 41) (fun H locs hR => ?_)
  refine hp_aload_n E hl 0 rfl 0 rfl dJ7_init_2_41 (rfl : 41 + 1 = 42) ?_
  refine hp_aload_n E hl 1 rfl 1 rfl dJ7_init_2_42 (rfl : 42 + 1 = 43) ?_
  refine hp_putX E hR hc0 3 (by decide) q528 (fun _ h => h) rfl (hp_nR rfl).1 (hp_nR rfl).2 dJ7_init_2_43 (rfl : 43 + 3 = 46) (fun H locs hR => ?_)
  refine hp_aload_n E hl 0 rfl 0 rfl dJ7_init_2_46 (rfl : 46 + 1 = 47) ?_
  refine hp_aload_n E hl 2 rfl 2 rfl dJ7_init_2_47 (rfl : 47 + 1 = 48) ?_
  refine hp_putX E hR hc0 0 (by decide) q529 (fun _ h => h) rfl (hp_nR rfl).1 (hp_nR rfl).2 dJ7_init_2_48 (rfl : 48 + 3 = 51) (fun H locs hR => ?_)
  refine hp_iload_n E hl 3 rfl 3 rfl dJ7_init_2_51 (rfl : 51 + 1 = 52) ?_
  refine hp_if_ne E dJ7_init_2_52 (rfl : 52 + 3 = 55) (tgt := 60) (by decide) (fun hb => ?_) (fun hb => ?_)
  · refine hp_aload_n E hl 0 rfl 0 rfl dJ7_init_2_55 (rfl : 55 + 1 = 56) ?_
    refine hp_null E dJ7_init_2_56 (rfl : 56 + 1 = 57) ?_
    refine hp_putX E hR hc0 2 (by decide) q531 (fun _ h => h) rfl (hp_nR rfl).1 (hp_nR rfl).2 dJ7_init_2_57 (rfl : 57 + 3 = 60) (fun H locs hR => ?_)
    exact hp_vret E hR rfl (Nat.le_of_ble_eq_true rfl) (Nat.le_of_ble_eq_true rfl) dJ7_init_2_60
  · exact absurd rfl hb
set_option maxHeartbeats 4000000 in
theorem m_J8_init {l : Launch} {B : Nat} {D : va_G} {s0 : State} {b0 : Nat} (G : hp_G l B D s0 b0) (o : Nat) (Si : hp_St) (hc0 : st_C Si o = 8) : hp_M l B D s0 yJ8_init cJ8_init 5 none 3 192 0 0 [hp_v B o, hp_v B 0, hp_v B 0, .int 0, .int 0] Si (hp_Qv B D s0 (fun S' => S' = Si)) := by
  refine hp_start G (by decide +kernel) rfl rfl (lv := [(0, hp_v B o), (1, hp_v B 0), (2, hp_v B 0), (3, .int 0), (4, .int 0)]) (by simp [lg_sl, hp_vc, hp_ci, hp_cj]) (by simp [lv_args, hp_vc, hp_ci, hp_cj]) ?_
  intro p e s m args below meth c E ls hl hR
  refine hp_aload_n E hl 0 rfl 0 rfl dJ8_init_0 (rfl : 0 + 1 = 1) ?_
  refine hp_aload_n E hl 1 rfl 1 rfl dJ8_init_1 (rfl : 1 + 1 = 2) ?_
  refine hp_aload_n E hl 2 rfl 2 rfl dJ8_init_2 (rfl : 2 + 1 = 3) ?_
  refine hp_iload_n E hl 3 rfl 3 rfl dJ8_init_3 (rfl : 3 + 1 = 4) ?_
  refine hp_iload E hl 4 rfl dJ8_init_4 (rfl : 4 + 2 = 6) ?_
  refine hp_fv (hp_rI E hR hl (hp_ne hR hc0) (m_J7_init_2 G o _ hc0) rfl q520 q521 q87 q522 nf_J7_init_2 ⟨Nat.le_of_ble_eq_true rfl, Nat.le_of_ble_eq_true rfl⟩ (rest := []) rfl (Nat.le_of_ble_eq_true rfl) dJ8_init_6 ⟨Nat.le_of_ble_eq_true rfl, Nat.le_of_ble_eq_true rfl⟩) hR (rfl : 6 + 3 = 9) (fun S1 H locs hq hR => ?_)
  rw [hq] at hR
  exact hp_vret E hR rfl (Nat.le_of_ble_eq_true rfl) (Nat.le_of_ble_eq_true rfl) dJ8_init_9
/-- the fault's constructor -/
def wp_X8_init (o : Nat) (a1 a2 : Int32) (S : hp_St) (Q : hp_St → Prop) : Prop := ∀ S1, S1 = st_pI (st_pI S o 0 a1) o 1 a2 → Q S1
theorem nf_X8_init : hp_nf yX8_init 2 = true := by decide +kernel
set_option maxHeartbeats 4000000 in
theorem m_X8_init {l : Launch} {B : Nat} {D : va_G} {s0 : State} {b0 : Nat} (G : hp_G l B D s0 b0) (o : Nat) (a1 a2 : Int32) (Si : hp_St) (Q : hp_St → Prop) (hc0 : st_C Si o = 8) (h : wp_X8_init o a1 a2 Si Q) : hp_M l B D s0 yX8_init cX8_init 3 none 5 320 0 0 [hp_v B o, .int a1, .int a2] Si (hp_Qv B D s0 (fun S' => hp_mono Si S' ∧ Q S')) := by
  refine hp_start G (by decide +kernel) rfl rfl (lv := [(0, hp_v B o), (1, .int a1), (2, .int a2)]) (by simp [lg_sl, hp_vc, hp_ci, hp_cj]) (by simp [lv_args, hp_vc, hp_ci, hp_cj]) ?_
  intro p e s m args below meth c E ls hl hR
  refine hp_aload_n E hl 0 rfl 0 rfl dX8_init_0 (rfl : 0 + 1 = 1) ?_
  refine hp_null E dX8_init_1 (rfl : 1 + 1 = 2) ?_
  refine hp_null E dX8_init_2 (rfl : 2 + 1 = 3) ?_
  refine hp_iconst E (0 : Int32) (by decide) dX8_init_3 (rfl : 3 + 1 = 4) ?_
  refine hp_iconst E (0 : Int32) (by decide) dX8_init_4 (rfl : 4 + 1 = 5) ?_
  refine hp_fv (hp_rI E hR hl (hp_ne hR hc0) (m_J8_init G o _ hc0) rfl q517 q518 q88 q519 nf_J8_init ⟨Nat.le_of_ble_eq_true rfl, Nat.le_of_ble_eq_true rfl⟩ (rest := []) rfl (Nat.le_of_ble_eq_true rfl) dX8_init_5 ⟨Nat.le_of_ble_eq_true rfl, Nat.le_of_ble_eq_true rfl⟩) hR (rfl : 5 + 3 = 8) (fun S1 H locs hq hR => ?_)
  rw [hq] at hR
  refine hp_aload_n E hl 0 rfl 0 rfl dX8_init_8 (rfl : 8 + 1 = 9) ?_
  refine hp_iload_n E hl 1 rfl 1 rfl dX8_init_9 (rfl : 9 + 1 = 10) ?_
  refine hx_putI E hR in_N8 tyN8 tyN8_ok nmN8 hc0 rfl 0 (Nat.le_of_ble_eq_true rfl) rfl q523 (fun _ h => h) (Or.inr ⟨E.nmm, rfl⟩) (Or.inl rfl) dX8_init_10 (rfl : 10 + 3 = 13) (fun S2 H locs e4 hm3 hR => ?_)
  refine hp_aload_n E hl 0 rfl 0 rfl dX8_init_13 (rfl : 13 + 1 = 14) ?_
  refine hp_iload_n E hl 2 rfl 2 rfl dX8_init_14 (rfl : 14 + 1 = 15) ?_
  refine hx_putI E hR in_N8 tyN8 tyN8_ok nmN8 (hp_mono.c hm3 hc0) rfl 1 (Nat.le_of_ble_eq_true rfl) rfl q525 (fun _ h => h) (Or.inr ⟨E.nmm, rfl⟩) (Or.inl rfl) dX8_init_15 (rfl : 15 + 3 = 18) (fun S5 H locs e5 hm4 hR => ?_)
  exact hp_vret E hR ⟨hp_mono.tr hm3 hm4, h S5 (by rw [e5, e4])⟩ (Nat.le_of_ble_eq_true rfl) (Nat.le_of_ble_eq_true rfl) dX8_init_18
