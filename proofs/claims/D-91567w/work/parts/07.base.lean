/-! BASE 2: arrays, fresh cells, casts, ends, starts, calls -/
set_option maxRecDepth 100000
section HPA
variable {p : Program} {l : Launch} {e : Env} {R : Room} {s : State} {m : MethodId} {args : Array Value} {below : List Frame} {meth : Method} {c : Code} {H : Heap} {locs : List Loc} {cells slots : Nat} {Q : State → Prop}
variable {B : Nat} {D : va_G} {s0 : State} {S : hp_St} {cc : ByteArray} {own nm : String} {nL : Nat} {ret : Option FieldType} {pc pc' : Nat} {ls : Array Slot} {rest : List Value} {lv : List (Nat × Value)}
/-- an index within, and its place -/
def hp_ib (i : Int32) (n : Nat) : Prop := vp_in i n
theorem hp_S.arr (hR : hp_S B D s0 S H locs) {n : Nat} (h1 : 50 ≤ st_C S n) : n ≠ 0 ∧ (st_C S n < 53 → H[B + n]? = some (arrV (D.1 (st_C S n)) (st_L S n) (fun j => .int (st_I S n j)))) ∧ (st_C S n = 53 → H[B + n]? = some (arrV (D.1 53) (st_L S n) (fun j => .long (st_J S n j)))) ∧ (53 < st_C S n → H[B + n]? = some (arrV (D.1 (st_C S n)) (st_L S n) (fun j => hp_v B (st_R S n j)))) := by
  obtain ⟨g1, g2, g3⟩ := hR.1.2.2 n (by omega)
  unfold hp_ck at g3
  rw [if_neg (by omega)] at g3
  refine ⟨by omega, fun h => ?_, fun h => ?_, fun h => ?_⟩
  · rw [if_pos h] at g3; exact g3
  · rw [if_neg (by omega), if_pos h] at g3; exact g3
  · rw [if_neg (by omega), if_neg (by omega)] at g3; exact g3
theorem hp_lt {i : Int32} {n : Nat} (h : vp_in i n) : i.toNatClampNeg < n := Nat.not_le.mp fun q => h (Or.inr q)
theorem hp_iald (E : hp_E B D s0 p s m args meth c cc own nm nL ret) (hR : hp_S B D s0 S H locs) {n : Nat} {i : Int32} (hc : st_C S n = 50) (hi : vp_in i (st_L S n)) (hdg : decode cc pc = .ok (.iaload, 1)) (hp : pc + 1 = pc')
    (kk : W p l e R s m args below meth c H locs cells slots Q (F0 m pc' ls (.int (st_I S n i.toNatClampNeg) :: rest))) : W p l e R s m args below meth c H locs cells slots Q (F0 m pc ls (.int i :: hp_v B n :: rest)) := by
  subst hp
  obtain ⟨h0, h1, -⟩ := hR.arr (n := n) (by omega)
  have h1 := h1 (by omega)
  rw [hc] at h1
  rw [hp_vp h0]
  exact W.iald (v := .int (st_I S n i.toNatClampNeg)) E.x E.b h1 ((E.K.2 0 _ rfl).1 _ _) (fun q => by cases q) (by rw [arrV_size]; exact hi) (by rw [arrV_read _ _ (hp_lt hi)]) rfl rfl hdg kk
theorem hp_zald (E : hp_E B D s0 p s m args meth c cc own nm nL ret) (hR : hp_S B D s0 S H locs) {n : Nat} {i : Int32} (hc : st_C S n = 51) (hi : vp_in i (st_L S n)) (hdg : decode cc pc = .ok (.baload, 1)) (hp : pc + 1 = pc')
    (kk : W p l e R s m args below meth c H locs cells slots Q (F0 m pc' ls (.int (st_I S n i.toNatClampNeg) :: rest))) : W p l e R s m args below meth c H locs cells slots Q (F0 m pc ls (.int i :: hp_v B n :: rest)) := by
  subst hp
  obtain ⟨h0, h1, -⟩ := hR.arr (n := n) (by omega)
  have h1 := h1 (by omega)
  rw [hc] at h1
  rw [hp_vp h0]
  exact W.zald (v := .int (st_I S n i.toNatClampNeg)) E.x E.b h1 ((E.K.2 1 _ rfl).1 _ _) (fun q => by cases q) (by rw [arrV_size]; exact hi) (by rw [arrV_read _ _ (hp_lt hi)]) rfl rfl hdg kk
theorem hp_bald (E : hp_E B D s0 p s m args meth c cc own nm nL ret) (hR : hp_S B D s0 S H locs) {n : Nat} {i : Int32} (hc : st_C S n = 52) (hi : vp_in i (st_L S n)) (hdg : decode cc pc = .ok (.baload, 1)) (hp : pc + 1 = pc')
    (kk : W p l e R s m args below meth c H locs cells slots Q (F0 m pc' ls (.int (st_I S n i.toNatClampNeg) :: rest))) : W p l e R s m args below meth c H locs cells slots Q (F0 m pc ls (.int i :: hp_v B n :: rest)) := by
  subst hp
  obtain ⟨h0, h1, -⟩ := hR.arr (n := n) (by omega)
  have h1 := h1 (by omega)
  rw [hc] at h1
  rw [hp_vp h0]
  exact W.bald (v := .int (st_I S n i.toNatClampNeg)) E.x E.b h1 ((E.K.2 2 _ rfl).1 _ _) (fun q => by cases q) (by rw [arrV_size]; exact hi) (by rw [arrV_read _ _ (hp_lt hi)]) rfl rfl hdg kk
theorem hp_lald (E : hp_E B D s0 p s m args meth c cc own nm nL ret) (hR : hp_S B D s0 S H locs) {n : Nat} {i : Int32} (hc : st_C S n = 53) (hi : vp_in i (st_L S n)) (hdg : decode cc pc = .ok (.laload, 1)) (hp : pc + 1 = pc')
    (kk : W p l e R s m args below meth c H locs cells slots Q (F0 m pc' ls (.long (st_J S n i.toNatClampNeg) :: rest))) : W p l e R s m args below meth c H locs cells slots Q (F0 m pc ls (.int i :: hp_v B n :: rest)) := by
  subst hp
  obtain ⟨h0, -, h1, -⟩ := hR.arr (n := n) (by omega)
  have h1 := h1 hc
  rw [hp_vp h0]
  exact W.lald (v := .long (st_J S n i.toNatClampNeg)) E.x E.b h1 ((E.K.2 3 _ rfl).1 _ _) (fun q => by cases q) (by rw [arrV_size]; exact hi) (by rw [arrV_read _ _ (hp_lt hi)]) rfl rfl hdg kk
theorem hp_aald (E : hp_E B D s0 p s m args meth c cc own nm nL ret) (hR : hp_S B D s0 S H locs) {n : Nat} {i : Int32} (hc : st_C S n = 54 ∨ st_C S n = 55 ∨ st_C S n = 56) (hi : vp_in i (st_L S n)) (hdg : decode cc pc = .ok (.aaload, 1)) (hp : pc + 1 = pc')
    (kk : W p l e R s m args below meth c H locs cells slots Q (F0 m pc' ls (hp_v B (st_R S n i.toNatClampNeg) :: rest))) : W p l e R s m args below meth c H locs cells slots Q (F0 m pc ls (.int i :: hp_v B n :: rest)) := by
  subst hp
  obtain ⟨h0, -, -, h1⟩ := hR.arr (n := n) (by omega)
  have h1 := h1 (by omega)
  rw [hp_vp h0]
  rcases hc with hc | hc | hc <;> rw [hc] at h1
  · exact W.aald (v := hp_v B (st_R S n i.toNatClampNeg)) (ty := .object "java/lang/Object") E.x E.b h1 ((E.K.2 4 _ rfl).1 _ _) rfl (fun q => by cases q) (by rw [arrV_size]; exact hi) (by rw [arrV_read _ _ (hp_lt hi)]) rfl rfl hdg kk
  · exact W.aald (v := hp_v B (st_R S n i.toNatClampNeg)) (ty := .array .int) E.x E.b h1 ((E.K.2 5 _ rfl).1 _ _) rfl (fun q => by cases q) (by rw [arrV_size]; exact hi) (by rw [arrV_read _ _ (hp_lt hi)]) rfl rfl hdg kk
  · exact W.aald (v := hp_v B (st_R S n i.toNatClampNeg)) (ty := .array .boolean) E.x E.b h1 ((E.K.2 6 _ rfl).1 _ _) rfl (fun q => by cases q) (by rw [arrV_size]; exact hi) (by rw [arrV_read _ _ (hp_lt hi)]) rfl rfl hdg kk
theorem hp_alen (E : hp_E B D s0 p s m args meth c cc own nm nL ret) (hR : hp_S B D s0 S H locs) {n : Nat} (hc : 50 ≤ st_C S n ∧ st_C S n < 57) (hdg : decode cc pc = .ok (.arraylength, 1)) (hp : pc + 1 = pc')
    (kk : W p l e R s m args below meth c H locs cells slots Q (F0 m pc' ls (.int (nI (st_L S n)) :: rest))) : W p l e R s m args below meth c H locs cells slots Q (F0 m pc ls (hp_v B n :: rest)) := by
  subst hp
  obtain ⟨h0, h1, h2, h3⟩ := hR.arr (n := n) hc.1
  rw [hp_vp h0]
  have hs : ∀ (cI : ClassId) (N : Nat) (f : Nat → Value), (arrV cI N f).slots.size.toInt32 = nI N := fun cI N f => by rw [arrV_size]; rfl
  have hcc : st_C S n = 50 ∨ st_C S n = 51 ∨ st_C S n = 52 ∨ st_C S n = 53 ∨ st_C S n = 54 ∨ st_C S n = 55 ∨ st_C S n = 56 := by omega
  rcases hcc with hc | hc | hc | hc | hc | hc | hc
  · have h1 := h1 (by omega); rw [hc] at h1
    exact W.alen E.x E.b h1 ((E.K.2 0 _ rfl).1 _ _) (hs _ _ _) rfl rfl hdg kk
  · have h1 := h1 (by omega); rw [hc] at h1
    exact W.alen E.x E.b h1 ((E.K.2 1 _ rfl).1 _ _) (hs _ _ _) rfl rfl hdg kk
  · have h1 := h1 (by omega); rw [hc] at h1
    exact W.alen E.x E.b h1 ((E.K.2 2 _ rfl).1 _ _) (hs _ _ _) rfl rfl hdg kk
  · have h1 := h2 hc
    exact W.alen E.x E.b h1 ((E.K.2 3 _ rfl).1 _ _) (hs _ _ _) rfl rfl hdg kk
  · have h1 := h3 (by omega); rw [hc] at h1
    exact W.alen E.x E.b h1 ((E.K.2 4 _ rfl).1 _ _) (hs _ _ _) rfl rfl hdg kk
  · have h1 := h3 (by omega); rw [hc] at h1
    exact W.alen E.x E.b h1 ((E.K.2 5 _ rfl).1 _ _) (hs _ _ _) rfl rfl hdg kk
  · have h1 := h3 (by omega); rw [hc] at h1
    exact W.alen E.x E.b h1 ((E.K.2 6 _ rfl).1 _ _) (hs _ _ _) rfl rfl hdg kk
theorem hp_S.putA (hR : hp_S B D s0 S H locs) {n : Nat} {i : Nat} {x : Int32} {H' : Heap} (h50 : 50 ≤ st_C S n) (h53 : st_C S n < 53) (e : H'[B + n]? = some (arrV (D.1 (st_C S n)) (st_L S n) (updV (fun j => .int (st_I S n j)) i (.int x)))) (hz : H'.size = H.size) (hq : ∀ q, q ≠ B + n → H'[q]? = H[q]?) (k : Nat) : hp_S B D s0 (st_pI S n i x) H' (locs ++ [⟨B + n, k⟩]) := by
  refine hR.upd (n := n) (S' := st_pI S n i x) (by omega) rfl rfl rfl (fun a ha => ⟨fun j => by simp [st_pI_e, ha], fun _ => rfl, fun _ => rfl⟩) ?_ hz hq k
  unfold hp_ck
  show (if st_C S n < 50 then _ else _)
  rw [if_neg (by omega)]
  show (if st_C S n < 53 then _ else _)
  rw [if_pos h53]
  rw [e]
  show some (arrV (D.1 (st_C S n)) (st_L S n) _) = some (arrV (D.1 (st_C S n)) (st_L S n) _)
  congr 2
  funext j
  unfold updV
  by_cases hj : j = i
  · simp [hj, st_pI_e]
  · simp [hj, st_pI_e]
theorem hp_iast (E : hp_E B D s0 p s m args meth c cc own nm nL ret) (hR : hp_S B D s0 S H locs) {n : Nat} {i x : Int32} (hc : st_C S n = 50) (hi : vp_in i (st_L S n)) (hdg : decode cc pc = .ok (.iastore, 1)) (hp : pc + 1 = pc')
    (kk : ∀ (H1 : Heap) (locs1 : List Loc), hp_S B D s0 (st_pI S n i.toNatClampNeg x) H1 locs1 → W p l e R s m args below meth c H1 locs1 cells slots Q (F0 m pc' ls rest)) : W p l e R s m args below meth c H locs cells slots Q (F0 m pc ls (.int x :: .int i :: hp_v B n :: rest)) := by
  subst hp
  obtain ⟨h0, h1, -⟩ := hR.arr (n := n) (by omega)
  have h1 := h1 (by omega)
  rw [hc] at h1
  rw [hp_vp h0]
  refine W.iast E.x E.b h1 ((E.K.2 0 _ rfl).1 _ _) (fun q => by cases q) (by rw [arrV_size]; exact hi) rfl rfl hdg fun H1 e1 z oq => ?_
  exact kk H1 _ (hR.putA (by omega) (by omega) (by rw [e1, arrV_store, hc]) z oq _)
theorem hp_zast (E : hp_E B D s0 p s m args meth c cc own nm nL ret) (hR : hp_S B D s0 S H locs) {n : Nat} {i x : Int32} (hc : st_C S n = 51) (hi : vp_in i (st_L S n)) (hx : x = 0 ∨ x = 1) (hdg : decode cc pc = .ok (.bastore, 1)) (hp : pc + 1 = pc')
    (kk : ∀ (H1 : Heap) (locs1 : List Loc), hp_S B D s0 (st_pI S n i.toNatClampNeg x) H1 locs1 → W p l e R s m args below meth c H1 locs1 cells slots Q (F0 m pc' ls rest)) : W p l e R s m args below meth c H locs cells slots Q (F0 m pc ls (.int x :: .int i :: hp_v B n :: rest)) := by
  subst hp
  obtain ⟨h0, h1, -⟩ := hR.arr (n := n) (by omega)
  have h1 := h1 (by omega)
  rw [hc] at h1
  rw [hp_vp h0]
  refine W.zast E.x E.b h1 ((E.K.2 1 _ rfl).1 _ _) (fun q => by cases q) (by rw [arrV_size]; exact hi) rfl rfl hdg fun H1 e1 z oq => ?_
  have hnx : narrow .boolean (.int x) = .int x := by rcases hx with rfl | rfl <;> rfl
  exact kk H1 _ (hR.putA (by omega) (by omega) (by rw [e1, arrV_store, hc, hnx]) z oq _)
theorem hp_bast (E : hp_E B D s0 p s m args meth c cc own nm nL ret) (hR : hp_S B D s0 S H locs) {n : Nat} {i x : Int32} (hc : st_C S n = 52) (hi : vp_in i (st_L S n)) (hdg : decode cc pc = .ok (.bastore, 1)) (hp : pc + 1 = pc')
    (kk : ∀ (H1 : Heap) (locs1 : List Loc), hp_S B D s0 (st_pI S n i.toNatClampNeg x.toInt8.toInt32) H1 locs1 → W p l e R s m args below meth c H1 locs1 cells slots Q (F0 m pc' ls rest)) : W p l e R s m args below meth c H locs cells slots Q (F0 m pc ls (.int x :: .int i :: hp_v B n :: rest)) := by
  subst hp
  obtain ⟨h0, h1, -⟩ := hR.arr (n := n) (by omega)
  have h1 := h1 (by omega)
  rw [hc] at h1
  rw [hp_vp h0]
  refine W.bast E.x E.b h1 ((E.K.2 2 _ rfl).1 _ _) (fun q => by cases q) (by rw [arrV_size]; exact hi) rfl rfl hdg fun H1 e1 z oq => ?_
  exact kk H1 _ (hR.putA (by omega) (by omega) (by rw [e1, arrV_store, hc]; rfl) z oq _)
theorem hp_last (E : hp_E B D s0 p s m args meth c cc own nm nL ret) (hR : hp_S B D s0 S H locs) {n : Nat} {i : Int32} {x : Int64} (hc : st_C S n = 53) (hi : vp_in i (st_L S n)) (hdg : decode cc pc = .ok (.lastore, 1)) (hp : pc + 1 = pc')
    (kk : ∀ (H1 : Heap) (locs1 : List Loc), hp_S B D s0 (st_pJ S n i.toNatClampNeg x) H1 locs1 → W p l e R s m args below meth c H1 locs1 cells slots Q (F0 m pc' ls rest)) : W p l e R s m args below meth c H locs cells slots Q (F0 m pc ls (.long x :: .int i :: hp_v B n :: rest)) := by
  subst hp
  obtain ⟨h0, -, h1, -⟩ := hR.arr (n := n) (by omega)
  have h1 := h1 hc
  rw [hp_vp h0]
  refine W.last E.x E.b h1 ((E.K.2 3 _ rfl).1 _ _) (fun q => by cases q) (by rw [arrV_size]; exact hi) rfl rfl hdg fun H1 e1 z oq => ?_
  refine kk H1 _ (hR.upd (n := n) (S' := st_pJ S n i.toNatClampNeg x) (by omega) rfl rfl rfl (fun a ha => ⟨fun _ => rfl, fun _ => rfl, fun j => by simp [st_pJ_e, ha]⟩) ?_ z oq _)
  unfold hp_ck
  show (if st_C S n < 50 then _ else _)
  rw [if_neg (by omega)]
  show (if st_C S n < 53 then _ else _)
  rw [if_neg (by omega)]
  show (if st_C S n = 53 then _ else _)
  rw [if_pos hc]
  rw [e1, arrV_store]
  show some (arrV (D.1 53) (st_L S n) _) = some (arrV (D.1 53) (st_L S n) _)
  congr 2
  funext j
  unfold updV
  by_cases hj : j = i.toNatClampNeg
  · simp [hj, st_pJ_e]
  · simp [hj, st_pJ_e]
/-- a reference into an Object[] -/
theorem hp_aast (E : hp_E B D s0 p s m args meth c cc own nm nL ret) (hR : hp_S B D s0 S H locs) {n v ci : Nat} {r : vw_C} {i : Int32} (hc : st_C S n = 54) (hi : vp_in i (st_L S n)) (hv : st_C S v = ci + 1) (hci : hp_cl[ci]? = some r) (hcast : Cond.castable r.1 "java/lang/Object" ∈ lw_tbl) (hdg : decode cc pc = .ok (.aastore, 1)) (hp : pc + 1 = pc')
    (kk : ∀ (H1 : Heap) (locs1 : List Loc), hp_S B D s0 (st_pR S n i.toNatClampNeg v) H1 locs1 → W p l e R s m args below meth c H1 locs1 cells slots Q (F0 m pc' ls rest)) : W p l e R s m args below meth c H locs cells slots Q (F0 m pc ls (hp_v B v :: .int i :: hp_v B n :: rest)) := by
  subst hp
  obtain ⟨h0, -, -, h1⟩ := hR.arr (n := n) (by omega)
  have h1 := h1 (by omega)
  rw [hc] at h1
  obtain ⟨hv0, cellV, g1, g2, g3, -⟩ := hR.ob hv hci
  rw [hp_vp h0, hp_vp hv0]
  have hcls := (E.K.1 ci r hci).2
  obtain ⟨kA, comp, k1, k2, k3, -⟩ := (E.K.2 4 _ rfl).2
  obtain ⟨c0, t0, f1, f2, f3⟩ := Cond.castable_spec (E.n hcast rfl)
  cases hcls.1.symm.trans f1
  cases k3.symm.trans f2
  obtain ⟨kC, hkC, -⟩ := hcls.2
  obtain ⟨kc, hkc⟩ := Vm.classAt_of_findClass k3
  refine W.aast E.x E.b h1 (fun q h => by cases h) (fun h => by cases h) k1 k2 rfl hkc ⟨fun q => hi (Or.inl q), by show _ < (arrV _ _ _).slots.size; rw [arrV_size]; exact hp_lt hi⟩ g1 (fun q h => by rw [g3] at h; cases h) (by rw [g2]; exact hkC) (by rw [g2]; exact f3) rfl rfl hdg fun H1 e1 z oq => ?_
  refine kk H1 _ (hR.upd (n := n) (S' := st_pR S n i.toNatClampNeg v) (by omega) rfl rfl rfl (fun a ha => ⟨fun _ => rfl, fun j => by simp [st_pR_e, ha], fun _ => rfl⟩) ?_ z oq _)
  unfold hp_ck
  show (if st_C S n < 50 then _ else _)
  rw [if_neg (by omega)]
  show (if st_C S n < 53 then _ else _)
  rw [if_neg (by omega)]
  show (if st_C S n = 53 then _ else _)
  rw [if_neg (by omega)]
  rw [e1, arrV_store, ← hp_vp hv0]
  show some (arrV (D.1 54) (st_L S n) _) = some (arrV (D.1 (st_C S n)) (st_L S n) _)
  rw [hc]
  congr 2
  funext j
  unfold updV
  by_cases hj : j = i.toNatClampNeg
  · simp [hj, st_pR_e]
  · simp [hj, st_pR_e]
/-- a fresh object -/
theorem hp_new (E : hp_E B D s0 p s m args meth c cc own nm nL ret) (hR : hp_S B D s0 S H locs) {C : String} {T : u_T} {N ci ni index : Nat} (hin : ∀ w ∈ u_ws C T N, w ∈ lw_all) (tk : Nat → FieldType) (hty : ∀ k, k < N → parseFieldDescriptor (T k).2.2.1 = some (tk k)) (hci : hp_cl[ci]? = some (C, T, N)) (hdef : ∀ j, j < N → defaultValue (tk j) = if hp_ir (ci + 1) j = true then .null else .int 0) (hcl : Cond.classLink own index C ∈ lw_all) (hinst : Cond.instantiable C ni ∈ lw_all) (hini : Cond.initialized C ∈ lw_all) (hcells : cells + 1 ≤ R.cells) (hslots : slots + ni ≤ R.slots) (hdg : decode cc pc = .ok (.new index, 3)) (hp : pc + 3 = pc')
    (kk : ∀ (H1 : Heap), hp_S B D s0 (st_nA S (ci + 1) 0) H1 locs → W p l e R s m args below meth c H1 locs (cells + 1) (slots + ni) Q (F0 m pc' ls (hp_v B (st_Z S) :: rest))) : W p l e R s m args below meth c H locs cells slots Q (F0 m pc ls rest) := by
  subst hp
  have hKn := E.K.1 ci _ hci
  have hZ0 := hR.1.2.1
  have hl : ci < 18 := (List.getElem?_eq_some_iff.mp hci).1
  refine W.newcK E.x E.b E.o (E.w hcl) (E.w hinst) (E.w hini) rfl hdg hcells hslots hKn.2.1 hR.1.1 fun H1 kC hkC e1 z1 o1 => ?_
  rw [hp_vp (by omega)] at kk
  refine kk H1 (hR.new rfl (fun a ha => ⟨by simp [st_nA, st_C, ha], by simp [st_nA, st_L, ha], fun j => by simp [st_nA, st_I, ha], fun j => by simp [st_nA, st_R, ha], fun j => by simp [st_nA, st_J, ha]⟩) (fun _ => ?_) (by rw [z1, hR.1.1]) (fun q hq => o1 q (by rw [← hR.1.1]; exact hq)))
  have hC' : st_C (st_nA S (ci + 1) 0) (st_Z S) = ci + 1 := by simp [st_nA, st_C]
  unfold hp_ck
  rw [hC', if_pos (by omega), Nat.add_sub_cancel]
  have hbig : ci + 1 = 8 → hp_big D H1 (B + st_Z S) := by
    intro h8
    have hci7 : ci = 7 := by omega
    subst hci7
    have hK17 := E.K.1 17 _ rfl
    have h7 := E.K.1 7 _ rfl
    have hc17 : D.1 17 = D.1 7 := Option.some.inj (hK17.2.1.symm.trans h7.2.1)
    obtain ⟨cell, g1, -, -, g4⟩ := u_born tyX8 E.all in_X8 hK17 (by rw [hc17]; exact hkC) (by rw [hc17]; exact e1) tyX8_ok
    exact ⟨cell, g1, fun j hj => k2_hasslot (g4 j hj)⟩
  refine ⟨_, hci, (u_born tk E.all hin hKn hkC e1 hty).to (fun j hj => ?_), hbig⟩
  rw [hdef j hj]
  unfold hp_f
  by_cases hr : hp_ir (ci + 1) j = true
  · rw [if_pos hr, if_pos hr]
    simp [st_nA, st_R, hp_v0]
  · rw [if_neg hr, if_neg hr]
    simp [st_nA, st_I]
/-- a fresh object that nobody looks into -/
theorem hp_newU (E : hp_E B D s0 p s m args meth c cc own nm nL ret) (hR : hp_S B D s0 S H locs) {C : String} {ni index : Nat} (hcl : Cond.classLink own index C ∈ lw_all) (hinst : Cond.instantiable C ni ∈ lw_all) (hini : Cond.initialized C ∈ lw_all) (hcells : cells + 1 ≤ R.cells) (hslots : slots + ni ≤ R.slots) (hdg : decode cc pc = .ok (.new index, 3)) (hp : pc + 3 = pc')
    (kk : ∀ (H1 : Heap), hp_S B D s0 (st_nU S) H1 locs → (∃ (cC : ClassId) (kC : Class), s.vm.findClass C = some cC ∧ s.vm.classes[cC]? = some kC ∧ H1[B + st_Z S]? = some (blank cC kC)) → W p l e R s m args below meth c H1 locs (cells + 1) (slots + ni) Q (F0 m pc' ls (hp_v B (st_Z S) :: rest))) : W p l e R s m args below meth c H locs cells slots Q (F0 m pc ls rest) := by
  subst hp
  have hZ0 := hR.1.2.1
  obtain ⟨cC, kC0, hfc, hk0, hkind, -⟩ := Cond.instantiable_spec (E.w hinst)
  refine W.newcK E.x E.b E.o (E.w hcl) (E.w hinst) (E.w hini) rfl hdg hcells hslots hfc hR.1.1 fun H1 kC hkC e1 z1 o1 => ?_
  rw [hp_vp (by omega)] at kk
  refine kk H1 (hR.new rfl (fun a ha => ⟨rfl, rfl, fun _ => rfl, fun _ => rfl, fun _ => rfl⟩) (fun hne => ?_) (by rw [z1, hR.1.1]) (fun q hq => o1 q (by rw [← hR.1.1]; exact hq))) ⟨cC, kC, hfc, hkC, e1⟩
  have := hR.lt (n := st_Z S) hne
  omega
theorem hp_S.newA (hR : hp_S B D s0 S H locs) {code N : Nat} {H' : Heap} (h50 : 50 ≤ code) (h1 : code < 53 → H'[B + st_Z S]? = some (arrV (D.1 code) N (fun _ => .int 0))) (h2 : code = 53 → H'[B + st_Z S]? = some (arrV (D.1 53) N (fun _ => .long 0))) (h3 : 53 < code → H'[B + st_Z S]? = some (arrV (D.1 code) N (fun _ => .null))) (hz : H'.size = H.size + 1) (hq : ∀ q, q < H.size → H'[q]? = H[q]?) : hp_S B D s0 (st_nA S code N) H' locs := by
  refine hR.new rfl (fun a ha => ⟨by simp [st_nA, st_C, ha], by simp [st_nA, st_L, ha], fun j => by simp [st_nA, st_I, ha], fun j => by simp [st_nA, st_R, ha], fun j => by simp [st_nA, st_J, ha]⟩) (fun _ => ?_) hz hq
  have hC' : st_C (st_nA S code N) (st_Z S) = code := by simp [st_nA, st_C]
  have hL' : st_L (st_nA S code N) (st_Z S) = N := by simp [st_nA, st_L]
  unfold hp_ck
  rw [hC', hL', if_neg (by omega)]
  by_cases c1 : code < 53
  · rw [if_pos c1, h1 c1]
    simp [st_nA, st_I]
  · rw [if_neg c1]
    by_cases c2 : code = 53
    · rw [if_pos c2, h2 c2]
      simp [st_nA, st_J]
    · rw [if_neg c2, h3 (by omega)]
      simp [st_nA, st_R, hp_v0]
/-- a fresh array of ints, booleans, bytes, longs: its code, its place in hp_tys -/
theorem hp_newa (E : hp_E B D s0 p s m args meth c cc own nm nL ret) (hR : hp_S B D s0 S H locs) {atype : ArrayType} {ty : FieldType} (hty : newarray.typeOf atype = ty) (code k0 : Nat) (htys : (hp_tys D)[k0]? = some (D.1 code, ty)) (hcode : (code = 50 ∧ ty = .int) ∨ (code = 51 ∧ ty = .boolean) ∨ (code = 52 ∧ ty = .byte) ∨ (code = 53 ∧ ty = .long)) (harr : Cond.arrayClass ty ∈ lw_all) {n : Int32} {N : Nat} (hn : ¬ n < 0) (hN : n.toNatClampNeg = N) (hb : N * componentBytes ty ≤ 536870912) (hcells : cells + 1 ≤ R.cells) (hslots : slots + N ≤ R.slots) (hdg : decode cc pc = .ok (.newarray atype, 2)) (hp : pc + 2 = pc')
    (kk : ∀ (H1 : Heap), hp_S B D s0 (st_nA S code N) H1 locs → W p l e R s m args below meth c H1 locs (cells + 1) (slots + N) Q (F0 m pc' ls (hp_v B (st_Z S) :: rest))) : W p l e R s m args below meth c H locs cells slots Q (F0 m pc ls (.int n :: rest)) := by
  subst hp
  subst hty
  have hZ0 := hR.1.2.1
  refine va_newaK E.x E.b (E.w harr) rfl hdg rfl hn hN hb hcells hslots hR.1.1 fun H1 cA e1 z1 o1 hAr hNm => ?_
  rw [hp_vp (by omega)] at kk
  have hra := (E.K.2 k0 _ htys).2
  have hcA : D.1 code = cA := by
    have h2 : s.vm.findClass ("[" ++ (newarray.typeOf atype).toString) = some (D.1 code) := by cases atype <;> exact hra
    exact Option.some.inj (h2.symm.trans hNm)
  rw [← hcA] at e1
  refine kk H1 (hR.newA (by omega) (fun h => ?_) (fun h => ?_) (fun h => by omega) (by rw [z1, hR.1.1]) (fun q hq => o1 q (by rw [← hR.1.1]; exact hq)))
  · rw [e1]
    rcases hcode with ⟨-, h2⟩ | ⟨-, h2⟩ | ⟨-, h2⟩ | ⟨h3, -⟩
    · rw [h2]; rfl
    · rw [h2]; rfl
    · rw [h2]; rfl
    · omega
  · rw [e1, h]
    rcases hcode with ⟨h3, -⟩ | ⟨h3, -⟩ | ⟨h3, -⟩ | ⟨-, h2⟩
    · omega
    · omega
    · omega
    · rw [h2]; rfl
/-- a fresh Object[] of at most M places -/
theorem hp_anew (E : hp_E B D s0 p s m args meth c cc own nm nL ret) (hR : hp_S B D s0 S H locs) {index : Nat} (M : Nat) (hM : M ≤ 1000000) (hcl : Cond.classLink own index "java/lang/Object" ∈ lw_all) (hover : Cond.arrayOver (.object "java/lang/Object") ∈ lw_tbl) {n : Int32} (hn : ¬ n < 0) (hnM : n.toNatClampNeg ≤ M) (hcells : cells + 1 ≤ R.cells) (hslots : slots + M ≤ R.slots) (hdg : decode cc pc = .ok (.anewarray index, 3)) (hp : pc + 3 = pc')
    (kk : ∀ (H1 : Heap), hp_S B D s0 (st_nA S 54 n.toNatClampNeg) H1 locs → W p l e R s m args below meth c H1 locs (cells + 1) (slots + M) Q (F0 m pc' ls (hp_v B (st_Z S) :: rest))) : W p l e R s m args below meth c H locs cells slots Q (F0 m pc ls (.int n :: rest)) := by
  subst hp
  have hZ0 := hR.1.2.1
  refine W.anew E.x E.b E.o (E.w hcl) (E.n hover rfl) rfl hdg rfl hn (by omega) hcells (by omega) fun cA kA comp f1 f2 f3 f4 => ?_
  refine W.widen (k := cells + 1) (n := slots + M) (Nat.le_refl _) (by omega) ?_
  rw [hp_vp (by omega)] at kk
  generalize hH1 : H.push ({ cls := cA, slots := Array.replicate n.toNatClampNeg .null, vm := .none } : Cell) = H1
  have z1 : H1.size = H.size + 1 := by rw [← hH1, Array.size_push]
  have e1 : H1[H.size]? = some (arrV cA n.toNatClampNeg (fun _ => .null)) := by rw [← hH1, Array.getElem?_push_size, ← arrV_new]
  have o1 : ∀ q : Nat, q < H.size → H1[q]? = H[q]? := fun q hq => by rw [← hH1, Array.getElem?_push, if_neg (Nat.ne_of_lt hq)]
  obtain ⟨kA', comp', -, -, -, g4⟩ := (E.K.2 4 _ rfl).2
  have hcA : D.1 54 = cA := Option.some.inj (g4.symm.trans f1)
  rw [hR.1.1] at e1
  rw [show (H.size : Nat) = B + st_Z S from hR.1.1]
  exact kk H1 (hR.newA (by omega) (fun h => by omega) (fun h => by omega) (fun _ => by rw [e1, hcA]) z1 o1)
/-- checkcast to an object's own class, and to a wider one -/
theorem hp_castS (E : hp_E B D s0 p s m args meth c cc own nm nL ret) (hR : hp_S B D s0 S H locs) {n ci index : Nat} {r : vw_C} (hc : st_C S n = ci + 1) (hci : hp_cl[ci]? = some r) (hlink : Cond.classLink own index r.1 ∈ lw_all) (hdg : decode cc pc = .ok (.checkcast index, 3)) (hp : pc + 3 = pc')
    (kk : W p l e R s m args below meth c H locs cells slots Q (F0 m pc' ls (hp_v B n :: rest))) : W p l e R s m args below meth c H locs cells slots Q (F0 m pc ls (hp_v B n :: rest)) := by
  subst hp
  obtain ⟨hn, -⟩ := hR.ob hc hci
  have hr := hR.recv E.K hc hci
  rw [hp_vp hn] at kk ⊢
  exact va_castS E.x E.b E.o (E.w hlink) (E.K.1 ci r hci).2 hr hdg kk
theorem hp_castY (E : hp_E B D s0 p s m args meth c cc own nm nL ret) (hR : hp_S B D s0 S H locs) {n ci index : Nat} {r : vw_C} {to : String} (hc : st_C S n = ci + 1) (hci : hp_cl[ci]? = some r) (hlink : Cond.classLink own index to ∈ lw_all) (hcast : Cond.castable r.1 to ∈ lw_tbl) (hdg : decode cc pc = .ok (.checkcast index, 3)) (hp : pc + 3 = pc')
    (kk : W p l e R s m args below meth c H locs cells slots Q (F0 m pc' ls (hp_v B n :: rest))) : W p l e R s m args below meth c H locs cells slots Q (F0 m pc ls (hp_v B n :: rest)) := by
  subst hp
  obtain ⟨hn, -⟩ := hR.ob hc hci
  have hr := hR.recv E.K hc hci
  rw [hp_vp hn] at kk ⊢
  exact va_castY E.x E.b E.o (E.w hlink) (va_Nw.of rfl (E.n hcast rfl)) hr hdg kk
/-- what is answered, and the state behind -/
def hp_Qi (B : Nat) (D : va_G) (s0 : State) (Q : Int32 → hp_St → Prop) : Array Value → State → Outcome → State → Prop := fun _ _ oc t => ∃ (r : Int32) (S' : hp_St), oc = .returned (some (.int r)) ∧ Q r S' ∧ hp_W B D s0 S' t
def hp_Ql (B : Nat) (D : va_G) (s0 : State) (Q : Int64 → hp_St → Prop) : Array Value → State → Outcome → State → Prop := fun _ _ oc t => ∃ (r : Int64) (S' : hp_St), oc = .returned (some (.long r)) ∧ Q r S' ∧ hp_W B D s0 S' t
def hp_Qa (B : Nat) (D : va_G) (s0 : State) (Q : Nat → hp_St → Prop) : Array Value → State → Outcome → State → Prop := fun _ _ oc t => ∃ (r : Nat) (S' : hp_St), oc = .returned (some (hp_v B r)) ∧ Q r S' ∧ hp_W B D s0 S' t
def hp_Qv (B : Nat) (D : va_G) (s0 : State) (Q : hp_St → Prop) : Array Value → State → Outcome → State → Prop := fun _ _ oc t => ∃ (S' : hp_St), oc = .returned none ∧ Q S' ∧ hp_W B D s0 S' t
/-- a contract: y with the values 'vals', from the state S -/
def hp_M (l : Launch) (B : Nat) (D : va_G) (s0 : State) (y : MethodName) (cc : ByteArray) (nL : Nat) (ret : Option FieldType) (fr lo mc ms : Nat) (vals : List Value) (S : hp_St) (Qc : Array Value → State → Outcome → State → Prop) : Prop :=
  Met l y [Cond.code y cc nL ret] ({ frames := fr, cells := mc, slots := ms, locals := lo }) (va_Pc vals (hp_W B D s0 S)) Qc mc ms (fun q => B < q)
theorem hp_start {b0 : Nat} (G : hp_G l B D s0 b0) {y : MethodName} {own nm : String} {fr lo mc ms : Nat} {vals : List Value} {Qc : Array Value → State → Outcome → State → Prop} (hy : plainName y.cls = true) (ho : y.cls = own) (hnm : y.name = nm) (hlen : (lg_sl vals).length ≤ nL) (hlv : lv_args 0 vals = lv)
    (body : ∀ (p : Program) (e : Env) (s : State) (m : MethodId) (args : Array Value) (below : List Frame) (meth : Method) (c : Code), hp_E B D s0 p s m args meth c cc own nm nL ret → ∀ ls : Array Slot, lv_has ls nL lv → hp_S B D s0 S s.heap [] → W p l e ({ frames := fr, cells := mc, slots := ms, locals := lo }) s m args below meth c s.heap [] 0 0 (MQ below Qc args s mc ms (fun q => B < q)) (F0 m 0 ls [])) : hp_M l B D s0 y cc nL ret fr lo mc ms vals S Qc := by
  refine Met.ofW (cc := cc) (maxL := nL) (ret := ret) hy rfl ?_
  intro p e s m args below meth c s₁ Bd hml hv
  obtain ⟨rfl, hW, hlow, hH⟩ := hv
  have hown : s.vm.findClass y.cls = some m.cls := findClass_of_methodNamed Bd.named
  have hE : hp_E B D s0 p s m vals.toArray meth c cc own nm nL ret := ⟨Bd.exec, Bd.bytes, hml, Bd.returns, Bd.notSynchronized, by rw [← ho]; exact hown, by rw [← hnm]; exact (name_of_methodNamed Bd.named Bd.method).1, fun w h hr => hp_ride hW hr (G.2.1 w h), va_K.moved hW.alike G.2.2.1, hW⟩
  have hl := lv_entry vals (n := nL) hlen
  rw [hlv] at hl
  rw [lg_entry_eq]
  exact body p e s m vals.toArray below meth c hE _ hl ⟨hH, hlow, fun q hq => by cases hq⟩
theorem hp_S.W (E : hp_E B D s0 p s m args meth c cc own nm nL ret) (hR : hp_S B D s0 S H locs) {t : State} (ht : t.heap = H) (hW : s.WarmedH t.vm) : hp_W B D s0 S t := ⟨State.WarmedH.trans E.W hW, fun q hq => by rw [ht]; exact hR.2.1 q hq, by rw [ht]; exact hR.1⟩
theorem hp_iret (E : hp_E B D s0 p s m args meth c cc own nm nL (some .int)) (hR : hp_S B D s0 S H locs) {v : Int32} {Q1 : Int32 → hp_St → Prop} {mc ms : Nat} (hq : Q1 v S) (hc : cells ≤ mc) (hs : slots ≤ ms) (hdg : decode cc pc = .ok (.ireturn, 1)) : W p l e R s m args below meth c H locs cells slots (MQ below (hp_Qi B D s0 Q1) args s mc ms (fun q => B < q)) (F0 m pc ls [.int v]) :=
  W.widen hc hs (W.iret E.x E.b E.r (fun t ht hW => ⟨v, S, rfl, hq, hR.W E ht hW⟩) hR.2.2 hdg E.lk)
theorem hp_zret (E : hp_E B D s0 p s m args meth c cc own nm nL (some .boolean)) (hR : hp_S B D s0 S H locs) {v : Int32} {Q1 : Int32 → hp_St → Prop} {mc ms : Nat} (hz : v = 0 ∨ v = 1) (hq : Q1 v S) (hc : cells ≤ mc) (hs : slots ≤ ms) (hdg : decode cc pc = .ok (.ireturn, 1)) : W p l e R s m args below meth c H locs cells slots (MQ below (hp_Qi B D s0 Q1) args s mc ms (fun q => B < q)) (F0 m pc ls [.int v]) :=
  W.widen hc hs (W.zret E.x E.b E.r (by rcases hz with rfl | rfl <;> rfl) (fun t ht hW => ⟨v, S, rfl, hq, hR.W E ht hW⟩) hR.2.2 hdg E.lk)
theorem hp_vret (E : hp_E B D s0 p s m args meth c cc own nm nL none) (hR : hp_S B D s0 S H locs) {Q1 : hp_St → Prop} {mc ms : Nat} (hq : Q1 S) (hc : cells ≤ mc) (hs : slots ≤ ms) (hdg : decode cc pc = .ok (.return_, 1)) : W p l e R s m args below meth c H locs cells slots (MQ below (hp_Qv B D s0 Q1) args s mc ms (fun q => B < q)) (F0 m pc ls []) :=
  W.widen hc hs (W.vret E.x E.b E.r (fun t ht hW => ⟨S, rfl, hq, hR.W E ht hW⟩) hR.2.2 hdg E.lk)
theorem hp_lret (E : hp_E B D s0 p s m args meth c cc own nm nL (some .long)) (hR : hp_S B D s0 S H locs) {v : Int64} {Q1 : Int64 → hp_St → Prop} {mc ms : Nat} (hq : Q1 v S) (hc : cells ≤ mc) (hs : slots ≤ ms) (hdg : decode cc pc = .ok (.lreturn, 1)) : W p l e R s m args below meth c H locs cells slots (MQ below (hp_Ql B D s0 Q1) args s mc ms (fun q => B < q)) (F0 m pc ls [.long v]) :=
  W.widen hc hs (W.lret E.x E.b E.r (fun t ht hW => ⟨v, S, rfl, hq, hR.W E ht hW⟩) hR.2.2 hdg E.lk)
theorem hp_aret {rt : FieldType} (E : hp_E B D s0 p s m args meth c cc own nm nL (some rt)) (hR : hp_S B D s0 S H locs) {v : Nat} {Q1 : Nat → hp_St → Prop} {mc ms : Nat} (hrt : (∃ n, rt = .object n) ∨ ∃ t, rt = .array t) (hq : Q1 v S) (hc : cells ≤ mc) (hs : slots ≤ ms) (hdg : decode cc pc = .ok (.areturn, 1)) : W p l e R s m args below meth c H locs cells slots (MQ below (hp_Qa B D s0 Q1) args s mc ms (fun q => B < q)) (F0 m pc ls [hp_v B v]) :=
  W.widen hc hs (W.aret E.x E.b E.r hrt hp_vr (fun t ht hW => ⟨v, S, rfl, hq, hR.W E ht hW⟩) hR.2.2 hdg E.lk)
/-- behind a call -/
theorem hp_fi {Q1 : Int32 → hp_St → Prop} {a : Array Value} {mc ms : Nat} {st0 : List Value} (hr : va_Run p l e R s m args below meth c H locs cells slots mc ms (F0 m pc ls st0) rest (hp_Qi B D s0 Q1 a) (fun q => B < q)) (hR : hp_S B D s0 S H locs) (hp : pc + 3 = pc') (kk : ∀ (r : Int32) (S1 : hp_St) (H1 : Heap) (locs1 : List Loc), Q1 r S1 → hp_S B D s0 S1 H1 locs1 → W p l e R s m args below meth c H1 locs1 (cells + mc) (slots + ms) Q (F0 m pc' ls (.int r :: rest))) : W p l e R s m args below meth c H locs cells slots Q (F0 m pc ls st0) := by
  subst hp
  intro T hT X
  obtain ⟨v, st₀, t, T', L, h0, X', hL, e1, e2, ⟨r, S1, hv, hq, -, hlow, hH⟩, st⟩ := hr T hT X
  cases hv
  obtain ⟨t2, a1, b1⟩ := kk r S1 T'.heap (locs ++ L) hq ⟨by rw [e1]; exact hH, by rw [e1]; exact hlow, fun q hq => (List.mem_append.mp hq).elim (hR.2.2 q) (hL q)⟩ T' rfl X'
  exact ⟨t2, st t2 a1, b1⟩
theorem hp_fl {Q1 : Int64 → hp_St → Prop} {a : Array Value} {mc ms : Nat} {st0 : List Value} (hr : va_Run p l e R s m args below meth c H locs cells slots mc ms (F0 m pc ls st0) rest (hp_Ql B D s0 Q1 a) (fun q => B < q)) (hR : hp_S B D s0 S H locs) (hp : pc + 3 = pc') (kk : ∀ (r : Int64) (S1 : hp_St) (H1 : Heap) (locs1 : List Loc), Q1 r S1 → hp_S B D s0 S1 H1 locs1 → W p l e R s m args below meth c H1 locs1 (cells + mc) (slots + ms) Q (F0 m pc' ls (.long r :: rest))) : W p l e R s m args below meth c H locs cells slots Q (F0 m pc ls st0) := by
  subst hp
  intro T hT X
  obtain ⟨v, st₀, t, T', L, h0, X', hL, e1, e2, ⟨r, S1, hv, hq, -, hlow, hH⟩, st⟩ := hr T hT X
  cases hv
  obtain ⟨t2, a1, b1⟩ := kk r S1 T'.heap (locs ++ L) hq ⟨by rw [e1]; exact hH, by rw [e1]; exact hlow, fun q hq => (List.mem_append.mp hq).elim (hR.2.2 q) (hL q)⟩ T' rfl X'
  exact ⟨t2, st t2 a1, b1⟩
theorem hp_fa {Q1 : Nat → hp_St → Prop} {a : Array Value} {mc ms : Nat} {st0 : List Value} (hr : va_Run p l e R s m args below meth c H locs cells slots mc ms (F0 m pc ls st0) rest (hp_Qa B D s0 Q1 a) (fun q => B < q)) (hR : hp_S B D s0 S H locs) (hp : pc + 3 = pc') (kk : ∀ (r : Nat) (S1 : hp_St) (H1 : Heap) (locs1 : List Loc), Q1 r S1 → hp_S B D s0 S1 H1 locs1 → W p l e R s m args below meth c H1 locs1 (cells + mc) (slots + ms) Q (F0 m pc' ls (hp_v B r :: rest))) : W p l e R s m args below meth c H locs cells slots Q (F0 m pc ls st0) := by
  subst hp
  intro T hT X
  obtain ⟨v, st₀, t, T', L, h0, X', hL, e1, e2, ⟨r, S1, hv, hq, -, hlow, hH⟩, st⟩ := hr T hT X
  cases hv
  obtain ⟨t2, a1, b1⟩ := kk r S1 T'.heap (locs ++ L) hq ⟨by rw [e1]; exact hH, by rw [e1]; exact hlow, fun q hq => (List.mem_append.mp hq).elim (hR.2.2 q) (hL q)⟩ T' rfl X'
  exact ⟨t2, st t2 a1, b1⟩
theorem hp_fv {Q1 : hp_St → Prop} {a : Array Value} {mc ms : Nat} {st0 : List Value} (hr : va_Run p l e R s m args below meth c H locs cells slots mc ms (F0 m pc ls st0) rest (hp_Qv B D s0 Q1 a) (fun q => B < q)) (hR : hp_S B D s0 S H locs) (hp : pc + 3 = pc') (kk : ∀ (S1 : hp_St) (H1 : Heap) (locs1 : List Loc), Q1 S1 → hp_S B D s0 S1 H1 locs1 → W p l e R s m args below meth c H1 locs1 (cells + mc) (slots + ms) Q (F0 m pc' ls rest)) : W p l e R s m args below meth c H locs cells slots Q (F0 m pc ls st0) := by
  subst hp
  intro T hT X
  obtain ⟨v, st₀, t, T', L, h0, X', hL, e1, e2, ⟨S1, hv, hq, -, hlow, hH⟩, st⟩ := hr T hT X
  cases hv
  obtain ⟨t2, a1, b1⟩ := kk S1 T'.heap (locs ++ L) hq ⟨by rw [e1]; exact hH, by rw [e1]; exact hlow, fun q hq => (List.mem_append.mp hq).elim (hR.2.2 q) (hL q)⟩ T' rfl X'
  exact ⟨t2, st t2 a1, b1⟩
theorem hp_room {st : List Value} (h : st.length ≤ 4) : 2 * (F0 m pc ls rest).monitorRoom + (st.map fun v => v.category).sum ≤ 8 := by
  refine lv_room ?_
  have h2 : ∀ st : List Value, (st.map fun v => v.category).sum ≤ 2 * st.length := by
    intro st
    induction st with
    | nil => simp
    | cons v st ih =>
      have : v.category ≤ 2 := by rcases lv_cat v with h | h <;> omega
      simp only [List.map_cons, List.sum_cons, List.length_cons]
      omega
  have := h2 st
  omega
theorem hp_blind {vals : List Value} : FrameBlind (va_Pc vals (hp_W B D s0 S)) := fun a U g mk q => q
theorem hp_ws {s : State} {args : Array Value} {w : Cond} (h : w.before args s = true) (hg : goodWord w = true) : ∀ (a' : Array Value) (U : State), s.WarmedH U.vm → w.before a' U = true := fun a' U hW => word_at hW (good_of_word hg) h
/-- the plain facts of a method's name -/
def hp_nf (y : MethodName) (n : Nat) : Bool := decide (y.cls ≠ "java/lang/invoke/MethodHandle") && decide (y.cls ≠ "java/lang/invoke/VarHandle") && decide ((parseMethodDescriptor y.desc).map (fun d => d.parameters.length) = some n)
theorem hp_nf_spec {y : MethodName} {n : Nat} (h : hp_nf y n = true) : y.cls ≠ "java/lang/invoke/MethodHandle" ∧ y.cls ≠ "java/lang/invoke/VarHandle" ∧ ∀ sig, parseMethodDescriptor y.desc = some sig → n = sig.parameters.length := by
  simp only [hp_nf, Bool.and_eq_true, decide_eq_true_eq] at h
  refine ⟨h.1.1, h.1.2, fun sig hs => ?_⟩
  have h2 := h.2
  rw [hs] at h2
  exact (Option.some.inj h2).symm
section HPC
variable {y : MethodName} {bytes : ByteArray} {maxL fr lo mc ms index k0 : Nat} {ret1 : Option FieldType} {As st0 : List Value} {Qc : Array Value → State → Outcome → State → Prop}
theorem hp_cb (E : hp_E B D s0 p s m args meth c cc own nm nL ret) (q5 : Cond.code y bytes maxL ret1 ∈ lw_all) (hroom : fr + 1 ≤ R.frames ∧ 8 + (maxL + 11) + lo ≤ R.locals) : ({ frames := fr, cells := mc, slots := ms, locals := lo } : Room).cells = mc ∧ ({ frames := fr, cells := mc, slots := ms, locals := lo } : Room).slots = ms ∧ ({ frames := fr, cells := mc, slots := ms, locals := lo } : Room).frames + 1 ≤ R.frames ∧ 8 + (maxL + 11) + ({ frames := fr, cells := mc, slots := ms, locals := lo } : Room).locals ≤ R.locals ∧ (∀ w ∈ [Cond.code y bytes maxL ret1], ∀ (a' : Array Value) (U : State), s.WarmedH U.vm → w.before a' U = true) ∧ Cond.code y bytes maxL ret1 ∈ [Cond.code y bytes maxL ret1] :=
  ⟨rfl, rfl, hroom.1, hroom.2, fun w hw => by rw [List.mem_singleton.mp hw]; exact hp_ws (E.w q5) (List.mem_filter.mp q5).2, List.mem_singleton.mpr rfl⟩
/-- invokevirtual, the method of the receiver's own class -/
theorem hp_rV (E : hp_E B D s0 p s m args meth c cc own nm nL ret) (hR : hp_S B D s0 S H locs) (hl : lv_has ls nL lv) {n ci : Nat} {r : vw_C} (hM : hp_M l B D s0 y bytes maxL ret1 fr lo mc ms (hp_v B n :: As) S Qc) (hc : st_C S n = ci + 1) (hci : hp_cl[ci]? = some r) (hC : r.1 = y.cls) (q1 : Cond.methodLink own index y ∈ lw_all) (q2 : Cond.instanceMethod y ∈ lw_all) (q3 : Cond.selects y.cls y y ∈ lw_all) (q4 : Cond.initialized y.cls ∈ lw_all) (q5 : Cond.code y bytes maxL ret1 ∈ lw_all) (hnf : hp_nf y As.length = true) (hroom : fr + 1 ≤ R.frames ∧ 8 + (maxL + 11) + lo ≤ R.locals) (hst : st0 = As.reverse ++ hp_v B n :: rest) (hsz : rest.length ≤ 4) (hdg : decode cc pc = .ok (.invokevirtual index, 3)) (hf : cells + mc ≤ R.cells ∧ slots + ms ≤ R.slots) :
    va_Run p l e R s m args below meth c H locs cells slots mc ms (F0 m pc ls st0) rest (Qc (Value.ref (B + n) :: As).toArray) (fun q => B < q) := by
  obtain ⟨hn, -⟩ := hR.ob hc hci
  have hr := hR.recv E.K hc hci
  rw [hC] at hr
  obtain ⟨n1, n2, n3⟩ := hp_nf_spec hnf
  unfold hp_M at hM
  rw [hp_vp hn] at hM hst
  obtain ⟨k1, k2, k3, k4, k5, k6⟩ := hp_cb (R := R) (mc := mc) (ms := ms) E q5 hroom
  exact va_runV (As := As) (rest := rest) (C := y.cls) ⟨E.x, E.b, E.ml, E.o, E.all⟩ hM ⟨⟨k1, k2, k3, k4, k5, k6, E.w q5, E.w q4, ⟨n1, n2⟩, n3, E.w q1⟩, E.w q2, E.w q3⟩ ⟨hp_blind, hr, fun U hU hW => ⟨rfl, hR.W E hU hW⟩⟩ rfl rfl hl.1 hst (hp_room hsz) hdg hf
/-- .. a method that a superclass declares or overrides -/
theorem hp_rU (E : hp_E B D s0 p s m args meth c cc own nm nL ret) (hR : hp_S B D s0 S H locs) (hl : lv_has ls nL lv) {n ci : Nat} {r : vw_C} {x : MethodName} {b0 : ByteArray} {m0 : Nat} {r0 : Option FieldType} (hM : hp_M l B D s0 y bytes maxL ret1 fr lo mc ms (hp_v B n :: As) S Qc) (hc : st_C S n = ci + 1) (hci : hp_cl[ci]? = some r) (q1 : Cond.methodLink own index x ∈ lw_all) (q2 : Cond.instanceMethod y ∈ lw_all) (q3 : Cond.selects r.1 x y ∈ lw_all) (q4 : Cond.initialized y.cls ∈ lw_all) (q5 : Cond.code y bytes maxL ret1 ∈ lw_all) (q6 : Cond.sameMethod x.cls x.cls x.name x.desc ∈ lw_all) (q7 : Cond.instanceMethod x ∈ lw_all) (q8 : Cond.code x b0 m0 r0 ∈ lw_all) (hnf : hp_nf x As.length = true) (hroom : fr + 1 ≤ R.frames ∧ 8 + (maxL + 11) + lo ≤ R.locals) (hst : st0 = As.reverse ++ hp_v B n :: rest) (hsz : rest.length ≤ 4) (hdg : decode cc pc = .ok (.invokevirtual index, 3)) (hf : cells + mc ≤ R.cells ∧ slots + ms ≤ R.slots) :
    va_Run p l e R s m args below meth c H locs cells slots mc ms (F0 m pc ls st0) rest (Qc (Value.ref (B + n) :: As).toArray) (fun q => B < q) := by
  obtain ⟨hn, -⟩ := hR.ob hc hci
  have hr := hR.recv E.K hc hci
  obtain ⟨n1, n2, n3⟩ := hp_nf_spec hnf
  unfold hp_M at hM
  rw [hp_vp hn] at hM hst
  exact va_runU (As := As) (rest := rest) (C := r.1) (owner := x.cls) (x := x) ⟨E.x, E.b, E.ml, E.o, E.all⟩ hM ⟨hp_cb E q5 hroom, E.w q5, E.w q4, ⟨n1, n2⟩, n3, E.w q1, E.w q6, va_Decl.of (E.w q7) (E.w q8), E.w q3, E.w q2⟩ ⟨hp_blind, hr, fun U hU hW => ⟨rfl, hR.W E hU hW⟩⟩ rfl rfl hl.1 hst (hp_room hsz) hdg hf
/-- invokestatic -/
theorem hp_rS (E : hp_E B D s0 p s m args meth c cc own nm nL ret) (hR : hp_S B D s0 S H locs) (hl : lv_has ls nL lv) (hM : hp_M l B D s0 y bytes maxL ret1 fr lo mc ms As S Qc) (q1 : Cond.methodLink own index y ∈ lw_all) (q2 : Cond.static y ∈ lw_all) (q4 : Cond.initialized y.cls ∈ lw_all) (q5 : Cond.code y bytes maxL ret1 ∈ lw_all) (hnf : hp_nf y As.length = true) (hroom : fr + 1 ≤ R.frames ∧ 8 + (maxL + 11) + lo ≤ R.locals) (hst : st0 = As.reverse ++ rest) (hsz : rest.length ≤ 4) (hdg : decode cc pc = .ok (.invokestatic index, 3)) (hf : cells + mc ≤ R.cells ∧ slots + ms ≤ R.slots) :
    va_Run p l e R s m args below meth c H locs cells slots mc ms (F0 m pc ls st0) rest (Qc As.toArray) (fun q => B < q) := by
  obtain ⟨n1, n2, n3⟩ := hp_nf_spec hnf
  unfold hp_M at hM
  obtain ⟨k1, k2, k3, k4, k5, k6⟩ := hp_cb (R := R) (mc := mc) (ms := ms) E q5 hroom
  exact va_runS (As := As) (rest := rest) ⟨E.x, E.b, E.ml, E.o, E.all⟩ hM ⟨⟨k1, k2, k3, k4, k5, k6, E.w q5, E.w q4, ⟨n1, n2⟩, n3, E.w q1⟩, E.w q2⟩ ⟨hp_blind, fun U hU hW => ⟨rfl, hR.W E hU hW⟩⟩ rfl rfl hl.1 hst (hp_room hsz) hdg hf
/-- invokespecial <init> -/
theorem hp_rI (E : hp_E B D s0 p s m args meth c cc own nm nL ret) (hR : hp_S B D s0 S H locs) (hl : lv_has ls nL lv) {n : Nat} (hn : n ≠ 0) (hM : hp_M l B D s0 y bytes maxL none fr lo mc ms (hp_v B n :: As) S Qc) (hin : y.name = "<init>") (q1 : Cond.methodLink own index y ∈ lw_all) (q2 : Cond.instanceMethod y ∈ lw_all) (q4 : Cond.initialized y.cls ∈ lw_all) (q5 : Cond.code y bytes maxL none ∈ lw_all) (hnf : hp_nf y As.length = true) (hroom : fr + 1 ≤ R.frames ∧ 8 + (maxL + 11) + lo ≤ R.locals) (hst : st0 = As.reverse ++ hp_v B n :: rest) (hsz : rest.length ≤ 4) (hdg : decode cc pc = .ok (.invokespecial index, 3)) (hf : cells + mc ≤ R.cells ∧ slots + ms ≤ R.slots) :
    va_Run p l e R s m args below meth c H locs cells slots mc ms (F0 m pc ls st0) rest (Qc (Value.ref (B + n) :: As).toArray) (fun q => B < q) := by
  obtain ⟨n1, n2, n3⟩ := hp_nf_spec hnf
  unfold hp_M at hM
  rw [hp_vp hn] at hM hst
  obtain ⟨k1, k2, k3, k4, k5, k6⟩ := hp_cb (R := R) (mc := mc) (ms := ms) E q5 hroom
  exact va_runI (As := As) (rest := rest) ⟨E.x, E.b, E.ml, E.o, E.all⟩ hM ⟨⟨k1, k2, k3, k4, k5, k6, E.w q5, E.w q4, ⟨n1, n2⟩, n3, E.w q1⟩, hin, E.w q2⟩ ⟨hp_blind, fun U hU hW => ⟨rfl, hR.W E hU hW⟩⟩ rfl rfl hl.1 hst (hp_room hsz) hdg hf
/-- a nest mate's private constructor, static, method -/
theorem hp_rIN (E : hp_E B D s0 p s m args meth c cc own nm nL ret) (hR : hp_S B D s0 S H locs) (hl : lv_has ls nL lv) {n : Nat} {host : String} (hn : n ≠ 0) (hM : hp_M l B D s0 y bytes maxL none fr lo mc ms (hp_v B n :: As) S Qc) (hin : y.name = "<init>") (q1 : Cond.methodLinkNest own index y host ∈ lw_tbl) (q2 : Cond.instanceMethod y ∈ lw_all) (q4 : Cond.initialized y.cls ∈ lw_all) (q5 : Cond.code y bytes maxL none ∈ lw_all) (hnf : hp_nf y As.length = true) (hroom : fr + 1 ≤ R.frames ∧ 8 + (maxL + 11) + lo ≤ R.locals) (hst : st0 = As.reverse ++ hp_v B n :: rest) (hsz : rest.length ≤ 4) (hdg : decode cc pc = .ok (.invokespecial index, 3)) (hf : cells + mc ≤ R.cells ∧ slots + ms ≤ R.slots) :
    va_Run p l e R s m args below meth c H locs cells slots mc ms (F0 m pc ls st0) rest (Qc (Value.ref (B + n) :: As).toArray) (fun q => B < q) := by
  obtain ⟨n1, n2, n3⟩ := hp_nf_spec hnf
  unfold hp_M at hM
  rw [hp_vp hn] at hM hst
  exact va_runIN (As := As) (rest := rest) ⟨E.x, E.b, E.ml, E.o, E.all⟩ hM ⟨⟨hp_cb E q5 hroom, E.w q5, E.w q4, ⟨n1, n2⟩, n3, E.n q1 rfl⟩, hin, E.w q2⟩ ⟨hp_blind, fun U hU hW => ⟨rfl, hR.W E hU hW⟩⟩ rfl rfl hl.1 hst (hp_room hsz) hdg hf
theorem hp_rSN (E : hp_E B D s0 p s m args meth c cc own nm nL ret) (hR : hp_S B D s0 S H locs) (hl : lv_has ls nL lv) {host : String} (hM : hp_M l B D s0 y bytes maxL ret1 fr lo mc ms As S Qc) (q1 : Cond.methodLinkNest own index y host ∈ lw_tbl) (q2 : Cond.static y ∈ lw_all) (q4 : Cond.initialized y.cls ∈ lw_all) (q5 : Cond.code y bytes maxL ret1 ∈ lw_all) (hnf : hp_nf y As.length = true) (hroom : fr + 1 ≤ R.frames ∧ 8 + (maxL + 11) + lo ≤ R.locals) (hst : st0 = As.reverse ++ rest) (hsz : rest.length ≤ 4) (hdg : decode cc pc = .ok (.invokestatic index, 3)) (hf : cells + mc ≤ R.cells ∧ slots + ms ≤ R.slots) :
    va_Run p l e R s m args below meth c H locs cells slots mc ms (F0 m pc ls st0) rest (Qc As.toArray) (fun q => B < q) := by
  obtain ⟨n1, n2, n3⟩ := hp_nf_spec hnf
  unfold hp_M at hM
  exact va_runSN (As := As) (rest := rest) ⟨E.x, E.b, E.ml, E.o, E.all⟩ hM ⟨⟨hp_cb E q5 hroom, E.w q5, E.w q4, ⟨n1, n2⟩, n3, E.n q1 rfl⟩, E.w q2, trivial⟩ ⟨hp_blind, fun U hU hW => ⟨rfl, hR.W E hU hW⟩⟩ rfl rfl hl.1 hst (hp_room hsz) hdg hf
theorem hp_rVN (E : hp_E B D s0 p s m args meth c cc own nm nL ret) (hR : hp_S B D s0 S H locs) (hl : lv_has ls nL lv) {n ci : Nat} {r : vw_C} {host : String} (hM : hp_M l B D s0 y bytes maxL ret1 fr lo mc ms (hp_v B n :: As) S Qc) (hc : st_C S n = ci + 1) (hci : hp_cl[ci]? = some r) (hC : r.1 = y.cls) (q1 : Cond.methodLinkNest own index y host ∈ lw_tbl) (q2 : Cond.instanceMethod y ∈ lw_all) (q3 : Cond.selects y.cls y y ∈ lw_all) (q4 : Cond.initialized y.cls ∈ lw_all) (q5 : Cond.code y bytes maxL ret1 ∈ lw_all) (hnf : hp_nf y As.length = true) (hroom : fr + 1 ≤ R.frames ∧ 8 + (maxL + 11) + lo ≤ R.locals) (hst : st0 = As.reverse ++ hp_v B n :: rest) (hsz : rest.length ≤ 4) (hdg : decode cc pc = .ok (.invokevirtual index, 3)) (hf : cells + mc ≤ R.cells ∧ slots + ms ≤ R.slots) :
    va_Run p l e R s m args below meth c H locs cells slots mc ms (F0 m pc ls st0) rest (Qc (Value.ref (B + n) :: As).toArray) (fun q => B < q) := by
  obtain ⟨hn, -⟩ := hR.ob hc hci
  have hr := hR.recv E.K hc hci
  rw [hC] at hr
  obtain ⟨n1, n2, n3⟩ := hp_nf_spec hnf
  unfold hp_M at hM
  rw [hp_vp hn] at hM hst
  exact va_runVN (As := As) (rest := rest) (C := y.cls) ⟨E.x, E.b, E.ml, E.o, E.all⟩ hM ⟨⟨hp_cb E q5 hroom, E.w q5, E.w q4, ⟨n1, n2⟩, n3, E.n q1 rfl⟩, E.w q2, E.w q3⟩ ⟨hp_blind, hr, fun U hU hW => ⟨rfl, hR.W E hU hW⟩⟩ rfl rfl hl.1 hst (hp_room hsz) hdg hf
end HPC
/-- a loop: the goal holds at every state of it, by a measure that falls -/
theorem hp_loop {σ : Type} (I : σ → Prop) (μ : σ → Nat) (G : σ → Prop) (step : ∀ x, I x → (∀ y, I y → μ y < μ x → G y) → G x) : ∀ x, I x → G x := by
  have key : ∀ (n : Nat) (x : σ), μ x < n → I x → G x := by
    intro n
    induction n with
    | zero => intro x h; exact absurd h (by omega)
    | succ n ih =>
      intro x h hI
      exact step x hI (fun y hy hlt => ih y (by omega) hy)
  exact fun x hI => key (μ x + 1) x (by omega) hI
end HPA
