/-! BY HAND: methods whose contracts aren't printed by program -/
set_option maxRecDepth 100000
/-- the first k places of the array a into the array b -/
def st_cpy (S : hp_St) (a b k : Nat) : hp_St := (st_Z S, st_C S, st_L S, st_I S, (fun q j => if q = b ∧ j < k then st_R S a j else st_R S q j), st_J S)
theorem st_cpy_e {S : hp_St} {a b k : Nat} : st_Z (st_cpy S a b k) = st_Z S ∧ st_C (st_cpy S a b k) = st_C S ∧ st_L (st_cpy S a b k) = st_L S ∧ st_I (st_cpy S a b k) = st_I S ∧ st_J (st_cpy S a b k) = st_J S ∧ ∀ q j, st_R (st_cpy S a b k) q j = if q = b ∧ j < k then st_R S a j else st_R S q j := ⟨rfl, rfl, rfl, rfl, rfl, fun _ _ => rfl⟩
theorem hp_mono_cpy {S : hp_St} {a b k : Nat} : hp_mono S (st_cpy S a b k) := ⟨Nat.le_refl _, fun _ _ => ⟨rfl, rfl⟩⟩
section HPCP
variable {p : Program} {l : Launch} {e : Env} {R : Room} {s : State} {m : MethodId} {args : Array Value} {below : List Frame} {meth : Method} {c : Code} {H : Heap} {locs : List Loc} {cells slots : Nat} {Q : State → Prop}
variable {B : Nat} {D : va_G} {s0 : State} {S : hp_St} {cc : ByteArray} {own nm : String} {nL : Nat} {ret : Option FieldType} {pc pc' : Nat} {ls : Array Slot} {rest : List Value} {lv : List (Nat × Value)}
/-- System.arraycopy of the first n places of an Object[] into another -/
theorem hp_acopy (E : hp_E B D s0 p s m args meth c cc own nm nL ret) (hl : lv_has ls nL lv) (hR : hp_S B D s0 S H locs) {a b : Nat} (ha : st_C S a = 54) (hb : st_C S b = 54) {index : Nat} (q1 : Cond.methodLink own index arraycopyName ∈ lw_all) {n : Int32} {k : Nat} (h3 : ¬ n < 0) (hk : n.toNatClampNeg = k) (h4 : k ≤ st_L S a) (h5 : k ≤ st_L S b) {C : String} (hcast : Cond.castable C "java/lang/Object" ∈ lw_tbl) (hel : ∀ i : Nat, i < k → st_R S a i = 0 ∨ (st_R S a i ≠ 0 ∧ ∃ cellV : Cell, H[B + st_R S a i]? = some cellV ∧ cellV.vm.isStatics = false ∧ s.vm.findClass C = some cellV.cls)) (hframes : 1 ≤ R.frames) (hsz : rest.length ≤ 4) (hlocals : 40 ≤ R.locals) (hdg : decode cc pc = .ok (.invokestatic index, 3)) (hp : pc + 3 = pc')
    (kk : ∀ (H1 : Heap) (locs1 : List Loc), hp_S B D s0 (st_cpy S a b k) H1 locs1 → W p l e R s m args below meth c H1 locs1 cells slots Q (F0 m pc' ls rest)) : W p l e R s m args below meth c H locs cells slots Q (F0 m pc ls (.int n :: .int 0 :: hp_v B b :: .int 0 :: hp_v B a :: rest)) := by
  subst hp
  obtain ⟨na, -, -, ga⟩ := hR.arr (n := a) (by omega)
  obtain ⟨nb, -, -, gb⟩ := hR.arr (n := b) (by omega)
  have ga := ga (by omega)
  have gb := gb (by omega)
  rw [ha] at ga
  rw [hb] at gb
  rw [hp_vp na, hp_vp nb]
  have nn : ∀ z : Int32, ¬ z < 0 → z.toInt = (z.toNatClampNeg : Int) := by
    intro z hz
    have hz0 : (0 : Int) ≤ z.toInt := by
      have := Int32.not_lt.mp hz
      simpa using Int32.le_iff_toInt_le.mp this
    show z.toInt = ((z.toInt.toNat : Nat) : Int)
    omega
  have e0 : ((0 : Int32)).toInt = 0 := rfl
  have t0 : ((0 : Int32)).toNatClampNeg = 0 := rfl
  have h8 := hp_room (m := m) (pc := pc) (ls := ls) (rest := rest) hsz
  have h80 : 2 * (F0 m pc ls rest).monitorRoom = 0 := rfl
  have hK4 := E.K.2 4 _ rfl
  intro T hT X
  obtain ⟨-, k0, hk0, cm0, hkk0⟩ := hK4.1 (st_L S a) (fun j => hp_v B (st_R S a j))
  obtain ⟨-, k1, hk1, cm1, hkk1⟩ := hK4.1 (st_L S b) (fun j => hp_v B (st_R S b j))
  have hwd : nativeFrameWords "java/lang/System" "arraycopy" 5 = 7 := by decide
  obtain ⟨vm', X', step⟩ := X.arraycopy E.x E.o (E.w q1) (E.w q677) (E.w q676) (E.w q94) (src := B + a) (dst := B + b) (srcPos := 0) (destPos := 0) (n := n) (by rw [hT]; exact ga) (by rw [hT]; exact gb)
    (fun _ h => by cases h) (fun _ h => by cases h) (fun h => by cases h) (fun h => by cases h) hk0 hk1 hkk0 hkk1 rfl (by decide) (by decide) h3
    (by rw [e0, nn n h3, hk, arrV_size]; omega)
    (by rw [e0, nn n h3, hk, arrV_size]; omega)
    (fun vm₁ hal i hi => by
      rw [hk] at hi
      have ev : (arrV (D.1 54) (st_L S a) (fun j => hp_v B (st_R S a j))).slots.getD (((0 : Int32)).toNatClampNeg + i) .null = hp_v B (st_R S a i) := by
        rw [t0, Nat.zero_add, Array.getD_eq_getD_getElem?, arrV_read _ _ (by omega)]
        rfl
      rw [ev]
      rcases hel i hi with z | ⟨z, cellV, g1, g2, g3⟩
      · rw [z]
        exact ⟨rfl, trivial⟩
      · rw [hp_vp z]
        obtain ⟨kA, comp, r1, r2, r3, -⟩ := hK4.2
        cases hk1.symm.trans r1
        cases hkk1.symm.trans r2
        obtain ⟨c1', t1', f1, f2, f3⟩ := Cond.castable_spec (E.n hcast rfl)
        cases f1.symm.trans g3
        cases f2.symm.trans r3
        obtain ⟨kC, hkC, -⟩ := Vm.findClass_spec g3
        obtain ⟨kE, hkE, -⟩ := Vm.findClass_spec r3
        obtain ⟨kC', hkC', -⟩ := hal.2.2 _ _ hkC
        obtain ⟨kE', hkE', -⟩ := hal.2.2 _ _ hkE
        refine ⟨rfl, cellV, (show T.heap[B + st_R S a i]? = some cellV by rw [hT]; exact g1), (fun q h => by rw [h] at g2; cases g2), ⟨kC', hkC'⟩, ⟨kE', hkE'⟩, ?_⟩
        show vm₁.assignable _ _ = true
        rw [hal.assignable]
        exact f3)
    (g := F0 m pc ls (.int n :: .int 0 :: .ref (B + b) :: .int 0 :: .ref (B + a) :: rest)) rfl (by rw [E.ml]; exact hl.1) (rest := rest) rfl (by rw [E.b]; exact hdg) hframes (by show 2 * 0 + _ + _ ≤ _; omega)
  have e1 : copied (arrV (D.1 54) (st_L S a) (fun j => hp_v B (st_R S a j))) (arrV (D.1 54) (st_L S b) (fun j => hp_v B (st_R S b j))) 0 0 n = arrV (D.1 54) (st_L S b) (fun j => hp_v B (st_R (st_cpy S a b k) b j)) := by
    have h6 : ((0 : Int32)).toNatClampNeg + n.toNatClampNeg ≤ st_L S a := by rw [t0, hk]; omega
    refine (va_copied (fun z => hp_v B z) (D.1 54) (D.1 54) (n1 := st_L S b) (dp := ((0 : Int32)).toNatClampNeg) (st_R S a) (st_R S b) h6).trans ?_
    congr 1
    funext j
    unfold va_cpy
    rw [t0, hk, st_cpy_e.2.2.2.2.2]
    by_cases hj : j < k
    · rw [if_pos ⟨Nat.zero_le _, by omega⟩, if_pos ⟨rfl, hj⟩]
      congr 1
      congr 1
      omega
    · rw [if_neg (by omega), if_neg (by omega)]
  rw [e1] at X' step
  have hlb : B + b < H.size := (Array.getElem?_eq_some_iff.mp gb).1
  have hheap : ((T.setVm vm').setCell (B + b) (arrV (D.1 54) (st_L S b) (fun j => hp_v B (st_R (st_cpy S a b k) b j)))).heap = H.setIfInBounds (B + b) (arrV (D.1 54) (st_L S b) (fun j => hp_v B (st_R (st_cpy S a b k) b j))) := by rw [← hT]; rfl
  generalize hnew : arrV (D.1 54) (st_L S b) (fun j => hp_v B (st_R (st_cpy S a b k) b j)) = cn at X' step hheap
  have hS2 : ∀ locs1 : List Loc, (∀ q ∈ locs1, B < q.base) → hp_S B D s0 (st_cpy S a b k) (H.setIfInBounds (B + b) cn) locs1 := by
    intro locs1 hlo
    have hu := hR.upd (n := b) (S' := st_cpy S a b k) (H' := H.setIfInBounds (B + b) cn) (by omega) rfl rfl rfl (fun q hq => ⟨fun _ => rfl, fun j => by rw [st_cpy_e.2.2.2.2.2, if_neg (fun z => hq z.1)], fun _ => rfl⟩) (by
      unfold hp_ck
      rw [st_cpy_e.2.1, st_cpy_e.2.2.1, if_neg (by omega), if_neg (by omega), if_neg (by omega), hb, hnew]
      simp [Array.getElem?_setIfInBounds, hlb]) (by simp) (fun q hq => by simp [Array.getElem?_setIfInBounds, Ne.symm hq]) 0
    exact ⟨hu.1, hu.2.1, hlo⟩
  obtain ⟨t, a1, b1⟩ := kk _ _ (hS2 _ (fun q hq => by
      rcases List.mem_append.mp hq with h | h
      · exact hR.2.2 q h
      · obtain ⟨z, -, hz⟩ := List.mem_map.mp h
        rw [← hz]
        show B < B + b
        omega)) _ hheap X'
  exact ⟨t, step t a1, b1⟩
end HPCP
/-- the array's objects are all of the class k -/
def hp_of (S : hp_St) (a k : Nat) : Prop := ∀ j, j < st_L S a → st_R S a j = 0 ∨ st_C S (st_R S a j) = k
def wp_J11_copyOf (a0 : Nat) (a1 : Int32) (S : hp_St) (Q : Nat → hp_St → Prop) : Prop := (st_C S a0 = 54) ∧ (¬ a1 < 0) ∧ (a1.toNatClampNeg ≤ 64) ∧ (st_L S a0 ≤ a1.toNatClampNeg) ∧ (hp_of S a0 9 ∨ hp_of S a0 13) ∧ ∀ n1 S1, n1 = st_Z S → S1 = st_cpy (st_nA S 54 a1.toNatClampNeg) a0 n1 (st_L S a0) → hp_fr S n1 → Q n1 S1
theorem nf_J11_copyOf : hp_nf yJ11_copyOf 2 = true := by decide +kernel
theorem nf_J11_copyOf_2 : hp_nf yJ11_copyOf_2 3 = true := by decide +kernel
set_option maxHeartbeats 4000000 in
theorem m_J11_copyOf_2 {l : Launch} {B : Nat} {D : va_G} {s0 : State} {b0 mi : Nat} (G : hp_G l B D s0 b0) (hmi : va_Mi "[Ljava/lang/Object;" mi s0) (a0 : Nat) (a1 : Int32) (Si : hp_St) (Q : Nat → hp_St → Prop) (h : wp_J11_copyOf a0 a1 Si Q) : hp_M l B D s0 yJ11_copyOf_2 cJ11_copyOf_2 4 (some (.array (.object "java/lang/Object"))) 3 192 1 64 [hp_v B a0, .int a1, .ref mi] Si (hp_Qa B D s0 (fun r S' => hp_mono Si S' ∧ Q r S')) := by
  have hrc : ∀ {x : Nat}, (Value.ref x).category = 1 := rfl
  refine hp_start G (by decide +kernel) rfl rfl (lv := [(0, hp_v B a0), (1, .int a1), (2, .ref mi)]) (by simp [lg_sl, hp_vc, hp_ci, hrc]) (by simp [lv_args, hp_vc, hp_ci, hrc]) ?_
  intro p e s m args below meth c E ls hl hR
  obtain ⟨h1, h2, h3, h4, h5, h⟩ := h
  have hZ0 := hR.1.2.1
  have hMi : va_Mi "[Ljava/lang/Object;" mi s := hmi.moved E.W.alike
  refine lv_aload_n E.x E.b dJ11_copyOf_2_0 rfl (lv_at hl 2 rfl) ?_
  refine va_ldcM E.x E.b E.o (E.w q670) hMi dJ11_copyOf_2_1 ?_
  refine lv_acmp_ne (rx := some mi) (ry := some mi) (tgt := 13) E.x E.b dJ11_copyOf_2_3 (by decide) (fun hb => absurd rfl hb) (fun _ => ?_)
  refine W.eq (g2 := F0 m 6 ls []) rfl ?_
  refine hp_iload_n E hl 1 rfl 1 rfl dJ11_copyOf_2_6 (rfl : 6 + 1 = 7) ?_
  have hf0 := hR.lt (n := a0) (by omega)
  refine hp_anew E hR 64 (by decide) q671 q168 h2 h3 (Nat.le_of_ble_eq_true rfl) (Nat.le_of_ble_eq_true rfl) dJ11_copyOf_2_7 (rfl : 7 + 3 = 10) (fun H1 hR1 => ?_)
  obtain ⟨n1, en1⟩ : ∃ x, x = st_Z Si := ⟨_, rfl⟩
  obtain ⟨N, eN⟩ : ∃ x, x = a1.toNatClampNeg := ⟨_, rfl⟩
  rw [← eN] at hR1 h3 h4 h
  rw [← en1]
  have hfr : hp_fr Si n1 := by rw [en1]; exact hR.fr
  refine hp_goto E (tgt := 24) dJ11_copyOf_2_10 (by decide) ?_
  refine hp_astore_n E hl 3 rfl (lv' := [(0, hp_v B a0), (1, .int a1), (2, .ref mi)]) dJ11_copyOf_2_24 (rfl : 24 + 1 = 25) (by decide) rfl (fun ls hl => ?_)
  refine hp_aload_n E hl 0 rfl 1 rfl dJ11_copyOf_2_25 (rfl : 25 + 1 = 26) ?_
  refine hp_iconst E (0 : Int32) (by decide) dJ11_copyOf_2_26 (rfl : 26 + 1 = 27) ?_
  refine hp_aload_n E hl 3 rfl 0 rfl dJ11_copyOf_2_27 (rfl : 27 + 1 = 28) ?_
  refine hp_iconst E (0 : Int32) (by decide) dJ11_copyOf_2_28 (rfl : 28 + 1 = 29) ?_
  refine hp_aload_n E hl 0 rfl 1 rfl dJ11_copyOf_2_29 (rfl : 29 + 1 = 30) ?_
  have hm1 : hp_mono Si (st_nA Si 54 N) := hp_mono_nA hR.fr
  have c1 := hm1.2 a0 (by omega)
  refine hp_alen E hR1 (by rw [c1.1, h1]; decide) dJ11_copyOf_2_30 (rfl : 30 + 1 = 31) ?_
  rw [c1.2]
  refine hp_iload_n E hl 1 rfl 2 rfl dJ11_copyOf_2_31 (rfl : 31 + 1 = 32) ?_
  have h0 : 2 * (F0 m 32 ls ([] : List Value)).monitorRoom = 0 := rfl
  refine va_mmin E.x E.b (by rw [E.ml]; exact hl.1.symm) E.o (E.w q672) (E.w q673) (E.w q92) (by rw [hp_mnc]; exact E.w q674) (Nat.le_of_ble_eq_true rfl) (by simp [hp_vc, hp_ci]) (Nat.le_of_ble_eq_true rfl) (Nat.le_of_ble_eq_true rfl) dJ11_copyOf_2_32 ?_
  have hNI : N < 2 ^ 31 := by omega
  have hmn : (if a1 < nI (st_L Si a0) then a1 else nI (st_L Si a0)) = nI (st_L Si a0) := by
    rw [if_neg]
    intro hlt
    rw [Int32.lt_iff_toInt_lt, nI_toInt (by omega)] at hlt
    have : a1.toInt.toNat = N := by rw [eN]; rfl
    have h20 : (0 : Int) ≤ a1.toInt := by
      have := Int32.le_iff_toInt_le.mp (Int32.not_lt.mp h2)
      simpa using this
    omega
  rw [hmn]
  have hn1 : n1 ≠ 0 := by omega
  have ha0 : a0 ≠ 0 := by omega
  have hna : a0 ≠ n1 := by omega
  have hC1 : st_C (st_nA Si 54 N) n1 = 54 := by simp [st_nA, st_C, en1]
  have hL1 : st_L (st_nA Si 54 N) n1 = N := by simp [st_nA, st_L, en1]
  have eR0 : ∀ j, st_R (st_nA Si 54 N) a0 j = st_R Si a0 j := fun j => by
    show (if a0 = st_Z Si then 0 else st_R Si a0 j) = _
    rw [if_neg (by omega)]
  have hel : ∃ C : String, Cond.castable C "java/lang/Object" ∈ lw_tbl ∧ ∀ i, i < st_L Si a0 → st_R (st_nA Si 54 N) a0 i = 0 ∨ (st_R (st_nA Si 54 N) a0 i ≠ 0 ∧ ∃ cellV : Cell, H1[B + st_R (st_nA Si 54 N) a0 i]? = some cellV ∧ cellV.vm.isStatics = false ∧ s.vm.findClass C = some cellV.cls) := by
    have go : ∀ (k : Nat) (r : vw_C), hp_cl[k]? = some r → hp_of Si a0 (k + 1) → ∀ i, i < st_L Si a0 → st_R (st_nA Si 54 N) a0 i = 0 ∨ (st_R (st_nA Si 54 N) a0 i ≠ 0 ∧ ∃ cellV : Cell, H1[B + st_R (st_nA Si 54 N) a0 i]? = some cellV ∧ cellV.vm.isStatics = false ∧ s.vm.findClass r.1 = some cellV.cls) := by
      intro k r hr ho i hi
      rw [eR0]
      rcases ho i hi with z | z
      · exact Or.inl z
      · have hz := hR.lt (n := st_R Si a0 i) (by omega)
        exact Or.inr ⟨by omega, hR1.recv E.K (hm1.c z) hr⟩
    rcases h5 with ho | ho
    · exact ⟨RX9, q1738, go 8 _ rfl ho⟩
    · exact ⟨RX13, q1742, go 12 _ rfl ho⟩
  obtain ⟨C, hcast, hel⟩ := hel
  refine hp_acopy E hl hR1 (c1.1.trans h1) hC1 q675 (k := st_L Si a0) (nI_pos (by omega)) (nI_clamp (by omega)) (by rw [c1.2]; omega) (by rw [hL1]; exact h4) hcast hel (Nat.le_of_ble_eq_true rfl) (Nat.le_of_ble_eq_true rfl) (Nat.le_of_ble_eq_true rfl) dJ11_copyOf_2_35 (rfl : 35 + 3 = 38) (fun H locs hR => ?_)
  refine hp_aload_n E hl 3 rfl 0 rfl dJ11_copyOf_2_38 (rfl : 38 + 1 = 39) ?_
  exact hp_aret E hR (Or.inr ⟨_, rfl⟩) ⟨hp_mono.tr hm1 hp_mono_cpy, h n1 _ en1 rfl hfr⟩ (Nat.le_of_ble_eq_true rfl) (Nat.le_of_ble_eq_true rfl) dJ11_copyOf_2_39
set_option maxHeartbeats 4000000 in
theorem m_J11_copyOf {l : Launch} {B : Nat} {D : va_G} {s0 : State} {b0 : Nat} (G : hp_G l B D s0 b0) (a0 : Nat) (a1 : Int32) (Si : hp_St) (Q : Nat → hp_St → Prop) (h : wp_J11_copyOf a0 a1 Si Q) : hp_M l B D s0 yJ11_copyOf cJ11_copyOf 2 (some (.array (.object "java/lang/Object"))) 4 256 1 64 [hp_v B a0, .int a1] Si (hp_Qa B D s0 (fun r S' => hp_mono Si S' ∧ Q r S')) := by
  obtain ⟨mi, hmi⟩ := G.2.2.2.2.2
  have hrc : ∀ {x : Nat}, (Value.ref x).category = 1 := rfl
  refine hp_start G (by decide +kernel) rfl rfl (lv := [(0, hp_v B a0), (1, .int a1)]) (by simp [lg_sl, hp_vc, hp_ci]) (by simp [lv_args, hp_vc, hp_ci]) ?_
  intro p e s m args below meth c E ls hl hR
  have hMi : va_Mi "[Ljava/lang/Object;" mi s := hmi.moved E.W.alike
  have h1 := h.1
  refine hp_aload_n E hl 0 rfl 0 rfl dJ11_copyOf_0 (rfl : 0 + 1 = 1) ?_
  refine hp_iload_n E hl 1 rfl 1 rfl dJ11_copyOf_1 (rfl : 1 + 1 = 2) ?_
  refine hp_aload_n E hl 0 rfl 0 rfl dJ11_copyOf_2 (rfl : 2 + 1 = 3) ?_
  obtain ⟨na, -, -, ga⟩ := hR.arr (n := a0) (by omega)
  have ga := ga (by omega)
  rw [h1] at ga
  have h0 : 2 * (F0 m 3 ls ([] : List Value)).monitorRoom = 0 := rfl
  have hfc : s.vm.findClass "[Ljava/lang/Object;" = some (D.1 54) := va_nmO (E.K.2 4 _ rfl).2 rfl
  have hr : ∃ cell : Cell, s.heap[B + a0]? = some cell ∧ cell.vm.isStatics = false ∧ s.vm.findClass "[Ljava/lang/Object;" = some cell.cls := ⟨_, ga, rfl, hfc⟩
  rw [hp_vp na]
  refine va_getC E.x E.b (by rw [E.ml]; exact hl.1.symm) E.o (E.w q643) (E.n q1752 rfl) (E.w q1751) (E.w q644) (E.w q666) hMi hr (Nat.le_of_ble_eq_true rfl) (by simp [hrc, hp_ci]) dJ11_copyOf_3 ?_
  refine W.eq (g2 := F0 m 6 ls [.ref mi, .int a1, .ref (B + a0)]) rfl ?_
  rw [← hp_vp na]
  refine hp_fa (hp_rS E hR hl (m_J11_copyOf_2 G hmi _ _ _ _ h) q667 q668 q93 q669 nf_J11_copyOf_2 ⟨Nat.le_of_ble_eq_true rfl, Nat.le_of_ble_eq_true rfl⟩ (rest := []) rfl (Nat.le_of_ble_eq_true rfl) dJ11_copyOf_6 ⟨Nat.le_of_ble_eq_true rfl, Nat.le_of_ble_eq_true rfl⟩) hR (rfl : 6 + 3 = 9) (fun z1 S1 H locs hq hR => ?_)
  exact hp_aret E hR (Or.inr ⟨_, rfl⟩) hq (Nat.le_of_ble_eq_true rfl) (Nat.le_of_ble_eq_true rfl) dJ11_copyOf_9
def hp_wd (t : List Int32) : List (List Int32) → Int32 → Int32
  | [], _ => -1
  | w :: ws, k => if t = w then k else hp_wd t ws (k + 1)
/-- the ints of f from a on, n of them -/
def hp_cut (f : Nat → Int32) (a n : Nat) : List Int32 := (List.range n).map (fun i => f (a + i))
theorem hp_cut_len {f : Nat → Int32} {a n : Nat} : (hp_cut f a n).length = n := by simp [hp_cut]
theorem hp_cut_eq {f : Nat → Int32} {a n : Nat} {w : List Int32} (hn : w.length = n) : hp_cut f a n = w ↔ ∀ j, j < n → w.getD j 0 = f (a + j) := by
  constructor
  · intro h j hj
    rw [← h, List.getD_eq_getElem?_getD]
    simp [hp_cut, List.getElem?_range hj]
  · intro h
    apply List.ext_getElem (by rw [hp_cut_len, hn])
    intro j h1 h2
    have h3 := h j (by omega)
    rw [List.getD_eq_getElem?_getD, List.getElem?_eq_getElem h2] at h3
    simp [hp_cut]
    exact h3.symm
theorem hp_dropW {w : Nat} (h : w < 15) : hp_words.drop w = hp_words.getD w [] :: hp_words.drop (w + 1) := by
  have : ∀ w, w < 15 → hp_words.drop w = hp_words.getD w [] :: hp_words.drop (w + 1) := by decide +kernel
  exact this w h
def wp_X2_word (o : Nat) (S : hp_St) (Q : Int32 → Prop) : Prop := (st_C S (st_R S o 7) = 1) ∧ (st_C S (st_R S (st_R S o 7) 0) = 52) ∧ (∃ a b : Nat, st_I S o 2 = nI a ∧ st_I S o 0 = nI b ∧ a ≤ b ∧ b ≤ st_L S (st_R S (st_R S o 7) 0) ∧ st_L S (st_R S (st_R S o 7) 0) < 2 ^ 31 ∧ Q (hp_wd (hp_cut (st_I S (st_R S (st_R S o 7) 0)) a (b - a)) hp_words 0))
theorem nf_X2_word : hp_nf yX2_word 0 = true := by decide +kernel
set_option maxHeartbeats 4000000 in
theorem m_X2_word {l : Launch} {B : Nat} {D : va_G} {s0 : State} {b0 : Nat} (G : hp_G l B D s0 b0) (o : Nat) (Si : hp_St) (Q : Int32 → Prop) (hc0 : st_C Si o = 2) (h : wp_X2_word o Si Q) : hp_M l B D s0 yX2_word cX2_word 3 (some .int) 6 384 0 0 [hp_v B o] Si (hp_Qi B D s0 (fun r S' => S' = Si ∧ Q r)) := by
  obtain ⟨tW, adK, adV, hD⟩ := hp_WD0 G
  refine hp_start G (by decide +kernel) rfl rfl (lv := [(0, hp_v B o)]) (by simp [lg_sl, hp_vc, hp_ci, hp_cj]) (by simp [lv_args, hp_vc, hp_ci, hp_cj]) ?_
  intro p e s m args below meth c E ls hl hR
  obtain ⟨hc1, hc2, a, b, ha, hb, hab, hbL, hL, hQ⟩ := h
  have hR0 := hR
  have hDs := hD.to G.1 E.W hR.2.1
  have hX := hDs.2.2.1
  obtain ⟨f, hf⟩ : ∃ f, f = st_I Si (st_R Si (st_R Si o 7) 0) := ⟨_, rfl⟩
  rw [← hf] at hQ
  have hsub : nI b - nI a = nI (b - a) := by
    have h1 : nI b = nI a + nI (b - a) := by rw [nI_add]; congr 1; omega
    rw [h1, Int32.add_comm, Int32.add_sub_cancel]
  have key : ∀ (n w : Nat), w + n = 15 → ∀ (H : Heap) (locs : List Loc) (ls : Array Slot), Q (hp_wd (hp_cut f a (b - a)) (hp_words.drop w) (nI w)) → lv_has ls 3 [(0, hp_v B o), (1, .int (nI w))] → hp_S B D s0 Si H locs → W p l e ({ frames := 6, cells := 0, slots := 0, locals := 384 } : Room) s m args below meth c H locs 0 0 (MQ below (hp_Qi B D s0 (fun r S' => S' = Si ∧ Q r)) args s 0 0 (fun q => B < q)) (F0 m 2 ls []) := by
    intro n
    induction n with
    | zero =>
      intro w hw H locs ls hQ hl hR
      have hw15 : w = 15 := by omega
      subst hw15
      have hV := hp_vaS hR0 hR (Nat.le_refl _)
      refine hp_iload_n E hl 1 rfl 1 rfl dX2_word_2 (rfl : 2 + 1 = 3) ?_
      refine va_getsN E.x E.b hDs.1 hV E.o (E.n q416 rfl) (fun _ h => h) dX2_word_3 ?_
      refine va_tlen E.x E.b hDs.2.1 hV (v := (15 : Int32)) rfl dX2_word_6 ?_
      refine hp_icmp_ge E dX2_word_7 (rfl : 7 + 3 = 10) (tgt := 101) (by decide) (fun hb => absurd hb (by decide)) (fun hb => ?_)
      refine hp_iconst E (-1 : Int32) (by decide) dX2_word_101 (rfl : 101 + 1 = 102) ?_
      exact hp_iret E hR ⟨rfl, hQ⟩ (Nat.le_of_ble_eq_true rfl) (Nat.le_of_ble_eq_true rfl) dX2_word_102
    | succ n ih =>
      intro w hw H locs ls hQ hl hR
      have hw15 : w < 15 := by omega
      rw [hp_dropW hw15] at hQ
      obtain ⟨hw31, hwlen⟩ := hp_wc5 w hw15
      have hnext : ¬ hp_cut f a (b - a) = hp_words.getD w [] → ∀ (H : Heap) (locs : List Loc) (ls : Array Slot), lv_has ls 3 [(0, hp_v B o), (1, .int (nI w))] → hp_S B D s0 Si H locs → W p l e ({ frames := 6, cells := 0, slots := 0, locals := 384 } : Room) s m args below meth c H locs 0 0 (MQ below (hp_Qi B D s0 (fun r S' => S' = Si ∧ Q r)) args s 0 0 (fun q => B < q)) (F0 m 95 ls []) := by
        intro hne H locs ls hl hR
        refine hp_iinc E hl (nI (w + 1)) 1 (lv' := [(0, hp_v B o)]) dX2_word_95 (rfl : 95 + 3 = 98) rfl (nI_1 w) (by decide) (by simp [hp_vc, hp_ci, hp_cj]) (fun ls hl => ?_)
        refine hp_goto E (tgt := 2) dX2_word_98 (by decide) ?_
        have hQ2 : Q (hp_wd (hp_cut f a (b - a)) (hp_words.drop (w + 1)) (nI (w + 1))) := by
          unfold hp_wd at hQ
          rw [if_neg hne, nI_1] at hQ
          exact hQ
        exact ih (w + 1) (by omega) H locs ls hQ2 (lv_sub hl [1, 0] rfl) hR
      have hV := hp_vaS hR0 hR (Nat.le_refl _)
      refine hp_iload_n E hl 1 rfl 1 rfl dX2_word_2 (rfl : 2 + 1 = 3) ?_
      refine va_getsN E.x E.b hDs.1 hV E.o (E.n q416 rfl) (fun _ h => h) dX2_word_3 ?_
      refine va_tlen E.x E.b hDs.2.1 hV (v := nI 15) rfl dX2_word_6 ?_
      refine hp_icmp_ge E dX2_word_7 (rfl : 7 + 3 = 10) (tgt := 101) (by decide) (fun _ => ?_) (fun hb => absurd (nI_lt hw15 (by decide)) hb)
      refine va_getsN E.x E.b hDs.1 hV E.o (E.n q416 rfl) (fun _ h => h) dX2_word_10 ?_
      refine hp_iload_n E hl 1 rfl 1 rfl dX2_word_13 (rfl : 13 + 1 = 14) ?_
      refine vb_tq E.x E.b hDs.2.1 hV (vp_in_nI hw15 (by decide)) (v := .ref (adK w)) (by rw [nI_clamp (by omega)]) dX2_word_14 ?_
      refine hp_fi (hp_rVs E hR hl (m_J3_length G hD w hw15 _) (hp_recvS (hX w hw15) hV) q418 q419 q420 q83 q421 nf_J3_length ⟨Nat.le_of_ble_eq_true rfl, Nat.le_of_ble_eq_true rfl⟩ (rest := []) rfl (Nat.le_of_ble_eq_true rfl) dX2_word_15 ⟨Nat.le_of_ble_eq_true rfl, Nat.le_of_ble_eq_true rfl⟩) hR (rfl : 15 + 3 = 18) (fun r S1 H locs hq hR => ?_)
      obtain ⟨hS, hr⟩ := hq
      rw [hS] at hR
      rw [hr]
      refine hp_aload_n E hl 0 rfl 0 rfl dX2_word_18 (rfl : 18 + 1 = 19) ?_
      refine hp_getI E hR in_X2 hc0 rfl 0 (Nat.le_of_ble_eq_true rfl) rfl q123 (fun _ h => h) dX2_word_19 (rfl : 19 + 3 = 22) ?_
      refine hp_aload_n E hl 0 rfl 0 rfl dX2_word_22 (rfl : 22 + 1 = 23) ?_
      refine hp_getI E hR in_X2 hc0 rfl 2 (Nat.le_of_ble_eq_true rfl) rfl q125 (fun _ h => h) dX2_word_23 (rfl : 23 + 3 = 26) ?_
      refine hp_isub E dX2_word_26 (rfl : 26 + 1 = 27) ?_
      rw [ha, hb, hsub]
      refine hp_icmp_eq E dX2_word_27 (rfl : 27 + 3 = 30) (tgt := 33) (by decide) (fun heq => ?_) (fun hne => ?_)
      · have hle : hp_wl.getD w 0 = b - a := (nI_eq hw31 (by omega)).mp heq
        have hwl : (hp_words.getD w []).length = b - a := by omega
        refine hp_iconst E (0 : Int32) (by decide) dX2_word_33 (rfl : 33 + 1 = 34) ?_
        refine hp_istore_n E hl 2 rfl (lv' := [(0, hp_v B o), (1, .int (nI w))]) dX2_word_34 (rfl : 34 + 1 = 35) (by decide) rfl (fun ls hl => ?_)
        have inner : ∀ (n k : Nat), k + n = b - a → (∀ j, j < k → (hp_words.getD w []).getD j 0 = f (a + j)) → ∀ (H : Heap) (locs : List Loc) (ls : Array Slot), lv_has ls 3 [(0, hp_v B o), (1, .int (nI w)), (2, .int (nI k))] → hp_S B D s0 Si H locs → W p l e ({ frames := 6, cells := 0, slots := 0, locals := 384 } : Room) s m args below meth c H locs 0 0 (MQ below (hp_Qi B D s0 (fun r S' => S' = Si ∧ Q r)) args s 0 0 (fun q => B < q)) (F0 m 35 ls []) := by
          intro n
          induction n with
          | zero =>
            intro k hk hm H locs ls hl hR
            have hkb : a + k = b := by omega
            refine hp_aload_n E hl 0 rfl 0 rfl dX2_word_35 (rfl : 35 + 1 = 36) ?_
            refine hp_getI E hR in_X2 hc0 rfl 2 (Nat.le_of_ble_eq_true rfl) rfl q125 (fun _ h => h) dX2_word_36 (rfl : 36 + 3 = 39) ?_
            refine hp_iload_n E hl 2 rfl 2 rfl dX2_word_39 (rfl : 39 + 1 = 40) ?_
            refine hp_iadd E dX2_word_40 (rfl : 40 + 1 = 41) ?_
            refine hp_aload_n E hl 0 rfl 0 rfl dX2_word_41 (rfl : 41 + 1 = 42) ?_
            refine hp_getI E hR in_X2 hc0 rfl 0 (Nat.le_of_ble_eq_true rfl) rfl q123 (fun _ h => h) dX2_word_42 (rfl : 42 + 3 = 45) ?_
            rw [ha, hb, nI_add, hkb]
            refine hp_icmp_ge E dX2_word_45 (rfl : 45 + 3 = 48) (tgt := 80) (by decide) (fun hx => absurd hx (nI_nlt (Nat.le_refl _) (by omega))) (fun _ => ?_)
            refine hp_aload_n E hl 0 rfl 0 rfl dX2_word_80 (rfl : 80 + 1 = 81) ?_
            refine hp_getI E hR in_X2 hc0 rfl 2 (Nat.le_of_ble_eq_true rfl) rfl q125 (fun _ h => h) dX2_word_81 (rfl : 81 + 3 = 84) ?_
            refine hp_iload_n E hl 2 rfl 2 rfl dX2_word_84 (rfl : 84 + 1 = 85) ?_
            refine hp_iadd E dX2_word_85 (rfl : 85 + 1 = 86) ?_
            refine hp_aload_n E hl 0 rfl 0 rfl dX2_word_86 (rfl : 86 + 1 = 87) ?_
            refine hp_getI E hR in_X2 hc0 rfl 0 (Nat.le_of_ble_eq_true rfl) rfl q123 (fun _ h => h) dX2_word_87 (rfl : 87 + 3 = 90) ?_
            rw [ha, hb, nI_add, hkb]
            refine hp_icmp_ne E dX2_word_90 (rfl : 90 + 3 = 93) (tgt := 95) (by decide) (fun _ => ?_) (fun hx => absurd rfl hx)
            refine hp_iload_n E hl 1 rfl 1 rfl dX2_word_93 (rfl : 93 + 1 = 94) ?_
            have hcut : hp_cut f a (b - a) = hp_words.getD w [] := (hp_cut_eq hwl).mpr (fun j hj => hm j (by omega))
            have hQ3 : Q (nI w) := by
              unfold hp_wd at hQ
              rw [if_pos hcut] at hQ
              exact hQ
            exact hp_iret E hR ⟨rfl, hQ3⟩ (Nat.le_of_ble_eq_true rfl) (Nat.le_of_ble_eq_true rfl) dX2_word_94
          | succ n ih2 =>
            intro k hk hm H locs ls hl hR
            have hkl : k < hp_wl.getD w 0 := by omega
            have hV := hp_vaS hR0 hR (Nat.le_refl _)
            refine hp_aload_n E hl 0 rfl 0 rfl dX2_word_35 (rfl : 35 + 1 = 36) ?_
            refine hp_getI E hR in_X2 hc0 rfl 2 (Nat.le_of_ble_eq_true rfl) rfl q125 (fun _ h => h) dX2_word_36 (rfl : 36 + 3 = 39) ?_
            refine hp_iload_n E hl 2 rfl 2 rfl dX2_word_39 (rfl : 39 + 1 = 40) ?_
            refine hp_iadd E dX2_word_40 (rfl : 40 + 1 = 41) ?_
            refine hp_aload_n E hl 0 rfl 0 rfl dX2_word_41 (rfl : 41 + 1 = 42) ?_
            refine hp_getI E hR in_X2 hc0 rfl 0 (Nat.le_of_ble_eq_true rfl) rfl q123 (fun _ h => h) dX2_word_42 (rfl : 42 + 3 = 45) ?_
            rw [ha, hb, nI_add]
            refine hp_icmp_ge E dX2_word_45 (rfl : 45 + 3 = 48) (tgt := 80) (by decide) (fun _ => ?_) (fun hx => absurd (nI_lt (by omega) (by omega)) hx)
            refine va_getsN E.x E.b hDs.1 hV E.o (E.n q416 rfl) (fun _ h => h) dX2_word_48 ?_
            refine hp_iload_n E hl 1 rfl 1 rfl dX2_word_51 (rfl : 51 + 1 = 52) ?_
            refine vb_tq E.x E.b hDs.2.1 hV (vp_in_nI hw15 (by decide)) (v := .ref (adK w)) (by rw [nI_clamp (by omega)]) dX2_word_52 ?_
            refine hp_iload_n E hl 2 rfl 2 rfl dX2_word_53 (rfl : 53 + 1 = 54) ?_
            refine hp_fi (hp_rVs E hR hl (m_J3_charAt G hD w k hw15 hkl _) (hp_recvS (hX w hw15) hV) q428 q429 q430 q83 q431 nf_J3_charAt ⟨Nat.le_of_ble_eq_true rfl, Nat.le_of_ble_eq_true rfl⟩ (rest := []) rfl (Nat.le_of_ble_eq_true rfl) dX2_word_54 ⟨Nat.le_of_ble_eq_true rfl, Nat.le_of_ble_eq_true rfl⟩) hR (rfl : 54 + 3 = 57) (fun r S1 H locs hq hR => ?_)
            obtain ⟨hS, hr⟩ := hq
            rw [hS] at hR
            rw [hr]
            refine hp_aload_n E hl 0 rfl 0 rfl dX2_word_57 (rfl : 57 + 1 = 58) ?_
            refine hp_getR E hR in_X2 hc0 rfl 7 (Nat.le_of_ble_eq_true rfl) rfl q130 (fun _ h => h) dX2_word_58 (rfl : 58 + 3 = 61) ?_
            refine hp_getRN E hR in_X1 hc1 rfl 0 (Nat.le_of_ble_eq_true rfl) rfl q314 (fun _ h => h) dX2_word_61 (rfl : 61 + 3 = 64) ?_
            refine hp_aload_n E hl 0 rfl 0 rfl dX2_word_64 (rfl : 64 + 1 = 65) ?_
            refine hp_getI E hR in_X2 hc0 rfl 2 (Nat.le_of_ble_eq_true rfl) rfl q125 (fun _ h => h) dX2_word_65 (rfl : 65 + 3 = 68) ?_
            refine hp_iload_n E hl 2 rfl 2 rfl dX2_word_68 (rfl : 68 + 1 = 69) ?_
            refine hp_iadd E dX2_word_69 (rfl : 69 + 1 = 70) ?_
            rw [ha, nI_add]
            refine hp_bald E hR hc2 (vp_in_nI (by omega) (by omega)) dX2_word_70 (rfl : 70 + 1 = 71) ?_
            rw [nI_clamp (by omega), ← hf]
            refine hp_icmp_ne E dX2_word_71 (rfl : 71 + 3 = 74) (tgt := 80) (by decide) (fun hx => ?_) (fun hx => ?_)
            · refine hp_iinc E hl (nI (k + 1)) 2 (lv' := [(0, hp_v B o), (1, .int (nI w))]) dX2_word_74 (rfl : 74 + 3 = 77) rfl (nI_1 k) (by decide) rfl (fun ls hl => ?_)
              refine hp_goto E (tgt := 35) dX2_word_77 (by decide) ?_
              refine ih2 (k + 1) (by omega) (fun j hj => ?_) H locs ls (lv_sub hl [1, 2, 0] rfl) hR
              rcases (by omega : j < k ∨ j = k) with hj | rfl
              · exact hm j hj
              · exact hx
            · refine hp_aload_n E hl 0 rfl 0 rfl dX2_word_80 (rfl : 80 + 1 = 81) ?_
              refine hp_getI E hR in_X2 hc0 rfl 2 (Nat.le_of_ble_eq_true rfl) rfl q125 (fun _ h => h) dX2_word_81 (rfl : 81 + 3 = 84) ?_
              refine hp_iload_n E hl 2 rfl 2 rfl dX2_word_84 (rfl : 84 + 1 = 85) ?_
              refine hp_iadd E dX2_word_85 (rfl : 85 + 1 = 86) ?_
              refine hp_aload_n E hl 0 rfl 0 rfl dX2_word_86 (rfl : 86 + 1 = 87) ?_
              refine hp_getI E hR in_X2 hc0 rfl 0 (Nat.le_of_ble_eq_true rfl) rfl q123 (fun _ h => h) dX2_word_87 (rfl : 87 + 3 = 90) ?_
              rw [ha, hb, nI_add]
              refine hp_icmp_ne E dX2_word_90 (rfl : 90 + 3 = 93) (tgt := 95) (by decide) (fun hy => absurd ((nI_eq (by omega) (by omega)).mp hy) (by omega)) (fun _ => ?_)
              have hne : ¬ hp_cut f a (b - a) = hp_words.getD w [] := fun hc => hx ((hp_cut_eq hwl).mp hc k (by omega))
              exact hnext hne H locs ls (lv_sub hl [0, 1] rfl) hR
        exact inner (b - a) 0 (by omega) (fun j hj => absurd hj (Nat.not_lt_zero _)) H locs ls (lv_sub hl [1, 2, 0] rfl) hR
      · refine hp_goto E (tgt := 95) dX2_word_30 (by decide) ?_
        have hne2 : ¬ hp_cut f a (b - a) = hp_words.getD w [] := by
          intro hc
          have h1 : (hp_cut f a (b - a)).length = (hp_words.getD w []).length := by rw [hc]
          rw [hp_cut_len] at h1
          exact hne (by rw [hwlen, ← h1])
        exact hnext hne2 H locs ls hl hR
  refine hp_iconst E (0 : Int32) (by decide) dX2_word_0 (rfl : 0 + 1 = 1) ?_
  refine hp_istore_n E hl 1 rfl (lv' := [(0, hp_v B o)]) dX2_word_1 (rfl : 1 + 1 = 2) (by decide) (by simp [hp_vc, hp_ci, hp_cj]) (fun ls hl => ?_)
  exact key 15 0 rfl _ _ ls hQ (lv_sub hl [1, 0] rfl) hR
