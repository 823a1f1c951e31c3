/-! BASE 3: what stays (hp_mono), rows in the form that the generator prints -/
set_option maxRecDepth 100000
/-- no cell changes its class or length, none goes -/
def hp_mono (S S' : hp_St) : Prop := st_Z S ≤ st_Z S' ∧ ∀ a, st_C S a ≠ 0 → st_C S' a = st_C S a ∧ st_L S' a = st_L S a
theorem hp_mono.rf {S : hp_St} : hp_mono S S := ⟨Nat.le_refl _, fun _ _ => ⟨rfl, rfl⟩⟩
theorem hp_mono.tr {S S1 S2 : hp_St} (h1 : hp_mono S S1) (h2 : hp_mono S1 S2) : hp_mono S S2 := ⟨Nat.le_trans h1.1 h2.1, fun a ha => by
  obtain ⟨e1, e2⟩ := h1.2 a ha
  obtain ⟨e3, e4⟩ := h2.2 a (by rw [e1]; exact ha)
  exact ⟨e3.trans e1, e4.trans e2⟩⟩
theorem hp_mono.c {S S1 : hp_St} (h : hp_mono S S1) {a k : Nat} (hc : st_C S a = k + 1) : st_C S1 a = k + 1 := ((h.2 a (by omega)).1).trans hc
theorem hp_mono.c2 {S S1 : hp_St} (h : hp_mono S S1) {a k j : Nat} (hc : st_C S a = k + 1 ∨ st_C S a = j + 1) : st_C S1 a = k + 1 ∨ st_C S1 a = j + 1 := hc.elim (fun q => Or.inl (h.c q)) (fun q => Or.inr (h.c q))
theorem hp_mono.c3 {S S1 : hp_St} (h : hp_mono S S1) {a k j i : Nat} (hc : st_C S a = k + 1 ∨ st_C S a = j + 1 ∨ st_C S a = i + 1) : st_C S1 a = k + 1 ∨ st_C S1 a = j + 1 ∨ st_C S1 a = i + 1 := hc.elim (fun q => Or.inl (h.c q)) (fun q => Or.inr (h.c2 q))
theorem hp_mono_pI {S : hp_St} {n k : Nat} {v : Int32} : hp_mono S (st_pI S n k v) := ⟨Nat.le_refl _, fun _ _ => ⟨rfl, rfl⟩⟩
theorem hp_mono_pR {S : hp_St} {n k : Nat} {v : Nat} : hp_mono S (st_pR S n k v) := ⟨Nat.le_refl _, fun _ _ => ⟨rfl, rfl⟩⟩
theorem hp_mono_pJ {S : hp_St} {n k : Nat} {v : Int64} : hp_mono S (st_pJ S n k v) := ⟨Nat.le_refl _, fun _ _ => ⟨rfl, rfl⟩⟩
/-- n is fresh in S -/
def hp_fr (S : hp_St) (n : Nat) : Prop := 0 < n ∧ ∀ a, st_C S a ≠ 0 → 0 < a ∧ a < n
theorem hp_mono_nA {S : hp_St} {c len : Nat} (h : hp_fr S (st_Z S)) : hp_mono S (st_nA S c len) := ⟨Nat.le_succ _, fun a ha => by
  have h1 : a ≠ st_Z S := by
    have := (h.2 a ha).2
    omega
  simp [st_nA, st_C, st_L, h1]⟩
theorem hp_or2 {a b X Y : Prop} (h : a ∨ b) (f : a → X → Y) (g : b → X → Y) (k : X) : Y := h.elim (fun q => f q k) (fun q => g q k)
theorem hp_or3 {a b c X Y : Prop} (h : a ∨ b ∨ c) (f : a → X → Y) (g : b → X → Y) (i : c → X → Y) (k : X) : Y := h.elim (fun q => f q k) (fun q => q.elim (fun q => g q k) (fun q => i q k))
section HPX
variable {p : Program} {l : Launch} {e : Env} {R : Room} {s : State} {m : MethodId} {args : Array Value} {below : List Frame} {meth : Method} {c : Code} {H : Heap} {locs : List Loc} {cells slots : Nat} {Q : State → Prop}
variable {B : Nat} {D : va_G} {s0 : State} {S : hp_St} {cc : ByteArray} {own nm : String} {nL : Nat} {ret : Option FieldType} {pc pc' : Nat} {ls : Array Slot} {rest : List Value} {lv : List (Nat × Value)}
theorem hp_S.fr (hR : hp_S B D s0 S H locs) : hp_fr S (st_Z S) := ⟨hR.1.2.1, fun a ha => ⟨(hR.lt ha).1, (hR.lt ha).2⟩⟩
theorem hp_ne (hR : hp_S B D s0 S H locs) {n k : Nat} (hc : st_C S n = k + 1) : n ≠ 0 := by
  have := (hR.lt (n := n) (by omega)).1
  omega
theorem hx_putI (E : hp_E B D s0 p s m args meth c cc own nm nL ret) (hR : hp_S B D s0 S H locs) {C ref : String} {T : u_T} {N ci index n : Nat} (hin : ∀ w ∈ u_ws C T N, w ∈ lw_all) (tk : Nat → FieldType) (hty : ∀ k, k < N → parseFieldDescriptor (T k).2.2.1 = some (tk k)) (hnm : ∀ a, a < N → ∀ b, b < N → a ≠ b → (T a).2.1 ≠ (T b).2.1) (hc : st_C S n = ci + 1) (hci : hp_cl[ci]? = some (C, T, N)) (k : Nat) (hk : k < N) (hir : hp_ir (ci + 1) k = false) {vi : Int32} (hlink : Cond.fieldLink own index ref (T k).2.1 (T k).2.2.1 ∈ lw_all) (hsame : ∀ x, s.fieldFound? (T k).1 (T k).2.1 (T k).2.2.1 = some x → s.fieldFound? ref (T k).2.1 (T k).2.2.1 = some x) (hfin : (T k).2.2.2 = false ∨ (meth.name = "<init>" ∧ (T k).1 = own)) (hv : tk k = .int ∨ (tk k = .boolean ∧ (vi = 0 ∨ vi = 1))) (hdg : decode cc pc = .ok (.putfield index, 3)) (hp : pc + 3 = pc')
    (kk : ∀ (S1 : hp_St) (H1 : Heap) (locs1 : List Loc), S1 = st_pI S n k vi → hp_mono S S1 → hp_S B D s0 S1 H1 locs1 → W p l e R s m args below meth c H1 locs1 cells slots Q (F0 m pc' ls rest)) : W p l e R s m args below meth c H locs cells slots Q (F0 m pc ls (.int vi :: hp_v B n :: rest)) :=
  hp_putI E hR hin tk hty hnm hc hci k hk hir hlink hsame hfin hv hdg hp (fun H1 locs1 h => kk _ H1 locs1 rfl hp_mono_pI h)
theorem hx_putIN (E : hp_E B D s0 p s m args meth c cc own nm nL ret) (hR : hp_S B D s0 S H locs) {C ref host : String} {T : u_T} {N ci index n : Nat} (hin : ∀ w ∈ u_ws C T N, w ∈ lw_all) (tk : Nat → FieldType) (hty : ∀ k, k < N → parseFieldDescriptor (T k).2.2.1 = some (tk k)) (hnm : ∀ a, a < N → ∀ b, b < N → a ≠ b → (T a).2.1 ≠ (T b).2.1) (hc : st_C S n = ci + 1) (hci : hp_cl[ci]? = some (C, T, N)) (k : Nat) (hk : k < N) (hir : hp_ir (ci + 1) k = false) {vi : Int32} (hlink : Cond.fieldLinkNest own index ref (T k).2.1 (T k).2.2.1 host ∈ lw_tbl) (hsame : ∀ x, s.fieldFound? (T k).1 (T k).2.1 (T k).2.2.1 = some x → s.fieldFound? ref (T k).2.1 (T k).2.2.1 = some x) (hfin : (T k).2.2.2 = false) (hv : tk k = .int ∨ (tk k = .boolean ∧ (vi = 0 ∨ vi = 1))) (hdg : decode cc pc = .ok (.putfield index, 3)) (hp : pc + 3 = pc')
    (kk : ∀ (S1 : hp_St) (H1 : Heap) (locs1 : List Loc), S1 = st_pI S n k vi → hp_mono S S1 → hp_S B D s0 S1 H1 locs1 → W p l e R s m args below meth c H1 locs1 cells slots Q (F0 m pc' ls rest)) : W p l e R s m args below meth c H locs cells slots Q (F0 m pc ls (.int vi :: hp_v B n :: rest)) :=
  hp_putIN E hR hin tk hty hnm hc hci k hk hir hlink hsame hfin hv hdg hp (fun H1 locs1 h => kk _ H1 locs1 rfl hp_mono_pI h)
theorem hx_putR (E : hp_E B D s0 p s m args meth c cc own nm nL ret) (hR : hp_S B D s0 S H locs) {C ref : String} {T : u_T} {N ci index n : Nat} (hin : ∀ w ∈ u_ws C T N, w ∈ lw_all) (tk : Nat → FieldType) (hty : ∀ k, k < N → parseFieldDescriptor (T k).2.2.1 = some (tk k)) (hnm : ∀ a, a < N → ∀ b, b < N → a ≠ b → (T a).2.1 ≠ (T b).2.1) (hc : st_C S n = ci + 1) (hci : hp_cl[ci]? = some (C, T, N)) (k : Nat) (hk : k < N) (hir : hp_ir (ci + 1) k = true) {vr : Nat} (hlink : Cond.fieldLink own index ref (T k).2.1 (T k).2.2.1 ∈ lw_all) (hsame : ∀ x, s.fieldFound? (T k).1 (T k).2.1 (T k).2.2.1 = some x → s.fieldFound? ref (T k).2.1 (T k).2.2.1 = some x) (hfin : (T k).2.2.2 = false ∨ (meth.name = "<init>" ∧ (T k).1 = own)) (hv : (tk k).isReference = true) (hdg : decode cc pc = .ok (.putfield index, 3)) (hp : pc + 3 = pc')
    (kk : ∀ (S1 : hp_St) (H1 : Heap) (locs1 : List Loc), S1 = st_pR S n k vr → hp_mono S S1 → hp_S B D s0 S1 H1 locs1 → W p l e R s m args below meth c H1 locs1 cells slots Q (F0 m pc' ls rest)) : W p l e R s m args below meth c H locs cells slots Q (F0 m pc ls (hp_v B vr :: hp_v B n :: rest)) :=
  hp_putR E hR hin tk hty hnm hc hci k hk hir hlink hsame hfin hv hdg hp (fun H1 locs1 h => kk _ H1 locs1 rfl hp_mono_pR h)
theorem hx_iast (E : hp_E B D s0 p s m args meth c cc own nm nL ret) (hR : hp_S B D s0 S H locs) {n : Nat} {i x : Int32} (hc : st_C S n = 50) (hi : vp_in i (st_L S n)) (hdg : decode cc pc = .ok (.iastore, 1)) (hp : pc + 1 = pc')
    (kk : ∀ (S1 : hp_St) (H1 : Heap) (locs1 : List Loc), S1 = st_pI S n i.toNatClampNeg x → hp_mono S S1 → hp_S B D s0 S1 H1 locs1 → W p l e R s m args below meth c H1 locs1 cells slots Q (F0 m pc' ls rest)) : W p l e R s m args below meth c H locs cells slots Q (F0 m pc ls (.int x :: .int i :: hp_v B n :: rest)) :=
  hp_iast E hR hc hi hdg hp (fun H1 locs1 h => kk _ H1 locs1 rfl hp_mono_pI h)
theorem hx_zast (E : hp_E B D s0 p s m args meth c cc own nm nL ret) (hR : hp_S B D s0 S H locs) {n : Nat} {i x : Int32} (hc : st_C S n = 51) (hi : vp_in i (st_L S n)) (hx : x = 0 ∨ x = 1) (hdg : decode cc pc = .ok (.bastore, 1)) (hp : pc + 1 = pc')
    (kk : ∀ (S1 : hp_St) (H1 : Heap) (locs1 : List Loc), S1 = st_pI S n i.toNatClampNeg x → hp_mono S S1 → hp_S B D s0 S1 H1 locs1 → W p l e R s m args below meth c H1 locs1 cells slots Q (F0 m pc' ls rest)) : W p l e R s m args below meth c H locs cells slots Q (F0 m pc ls (.int x :: .int i :: hp_v B n :: rest)) :=
  hp_zast E hR hc hi hx hdg hp (fun H1 locs1 h => kk _ H1 locs1 rfl hp_mono_pI h)
theorem hx_bast (E : hp_E B D s0 p s m args meth c cc own nm nL ret) (hR : hp_S B D s0 S H locs) {n : Nat} {i x : Int32} (hc : st_C S n = 52) (hi : vp_in i (st_L S n)) (hdg : decode cc pc = .ok (.bastore, 1)) (hp : pc + 1 = pc')
    (kk : ∀ (S1 : hp_St) (H1 : Heap) (locs1 : List Loc), S1 = st_pI S n i.toNatClampNeg x.toInt8.toInt32 → hp_mono S S1 → hp_S B D s0 S1 H1 locs1 → W p l e R s m args below meth c H1 locs1 cells slots Q (F0 m pc' ls rest)) : W p l e R s m args below meth c H locs cells slots Q (F0 m pc ls (.int x :: .int i :: hp_v B n :: rest)) :=
  hp_bast E hR hc hi hdg hp (fun H1 locs1 h => kk _ H1 locs1 rfl hp_mono_pI h)
theorem hx_last (E : hp_E B D s0 p s m args meth c cc own nm nL ret) (hR : hp_S B D s0 S H locs) {n : Nat} {i : Int32} {x : Int64} (hc : st_C S n = 53) (hi : vp_in i (st_L S n)) (hdg : decode cc pc = .ok (.lastore, 1)) (hp : pc + 1 = pc')
    (kk : ∀ (S1 : hp_St) (H1 : Heap) (locs1 : List Loc), S1 = st_pJ S n i.toNatClampNeg x → hp_mono S S1 → hp_S B D s0 S1 H1 locs1 → W p l e R s m args below meth c H1 locs1 cells slots Q (F0 m pc' ls rest)) : W p l e R s m args below meth c H locs cells slots Q (F0 m pc ls (.long x :: .int i :: hp_v B n :: rest)) :=
  hp_last E hR hc hi hdg hp (fun H1 locs1 h => kk _ H1 locs1 rfl hp_mono_pJ h)
/-- the classes that lists hold -/
theorem hx_aast (E : hp_E B D s0 p s m args meth c cc own nm nL ret) (hR : hp_S B D s0 S H locs) {n v : Nat} {i : Int32} (hc : st_C S n = 54) (hi : vp_in i (st_L S n)) (hv : 9 ≤ st_C S v ∧ st_C S v ≤ 16) (hdg : decode cc pc = .ok (.aastore, 1)) (hp : pc + 1 = pc')
    (kk : ∀ (S1 : hp_St) (H1 : Heap) (locs1 : List Loc), S1 = st_pR S n i.toNatClampNeg v → hp_mono S S1 → hp_S B D s0 S1 H1 locs1 → W p l e R s m args below meth c H1 locs1 cells slots Q (F0 m pc' ls rest)) : W p l e R s m args below meth c H locs cells slots Q (F0 m pc ls (hp_v B v :: .int i :: hp_v B n :: rest)) := by
  have kk1 : ∀ (H1 : Heap) (locs1 : List Loc), hp_S B D s0 (st_pR S n i.toNatClampNeg v) H1 locs1 → W p l e R s m args below meth c H1 locs1 cells slots Q (F0 m pc' ls rest) := fun H1 locs1 h => kk _ H1 locs1 rfl hp_mono_pR h
  have h9 : st_C S v = 8 + 1 ∨ st_C S v = 9 + 1 ∨ st_C S v = 10 + 1 ∨ st_C S v = 11 + 1 ∨ st_C S v = 12 + 1 ∨ st_C S v = 13 + 1 ∨ st_C S v = 14 + 1 ∨ st_C S v = 15 + 1 := by omega
  rcases h9 with h | h | h | h | h | h | h | h
  · exact hp_aast E hR hc hi h rfl (show Cond.castable RX9 _ ∈ lw_tbl from q1738) hdg hp kk1
  · exact hp_aast E hR hc hi h rfl (show Cond.castable RX10 _ ∈ lw_tbl from q1739) hdg hp kk1
  · exact hp_aast E hR hc hi h rfl (show Cond.castable RX11 _ ∈ lw_tbl from q1740) hdg hp kk1
  · exact hp_aast E hR hc hi h rfl (show Cond.castable RX12 _ ∈ lw_tbl from q1741) hdg hp kk1
  · exact hp_aast E hR hc hi h rfl (show Cond.castable RX13 _ ∈ lw_tbl from q1742) hdg hp kk1
  · exact hp_aast E hR hc hi h rfl (show Cond.castable RX16 _ ∈ lw_tbl from q1743) hdg hp kk1
  · exact hp_aast E hR hc hi h rfl (show Cond.castable RX17 _ ∈ lw_tbl from q1744) hdg hp kk1
  · exact hp_aast E hR hc hi h rfl (show Cond.castable RX18 _ ∈ lw_tbl from q1745) hdg hp kk1
theorem hx_new (E : hp_E B D s0 p s m args meth c cc own nm nL ret) (hR : hp_S B D s0 S H locs) {C : String} {T : u_T} {N ci ni index : Nat} (hin : ∀ w ∈ u_ws C T N, w ∈ lw_all) (tk : Nat → FieldType) (hty : ∀ k, k < N → parseFieldDescriptor (T k).2.2.1 = some (tk k)) (hci : hp_cl[ci]? = some (C, T, N)) (hdef : ∀ j, j < N → defaultValue (tk j) = if hp_ir (ci + 1) j = true then .null else .int 0) (hcl : Cond.classLink own index C ∈ lw_all) (hinst : Cond.instantiable C ni ∈ lw_all) (hini : Cond.initialized C ∈ lw_all) (hcells : cells + 1 ≤ R.cells) (hslots : slots + ni ≤ R.slots) (hdg : decode cc pc = .ok (.new index, 3)) (hp : pc + 3 = pc')
    (kk : ∀ (n1 : Nat) (S1 : hp_St) (H1 : Heap), n1 = st_Z S → S1 = st_nA S (ci + 1) 0 → hp_fr S n1 → hp_mono S S1 → st_C S1 n1 = ci + 1 → hp_S B D s0 S1 H1 locs → W p l e R s m args below meth c H1 locs (cells + 1) (slots + ni) Q (F0 m pc' ls (hp_v B n1 :: rest))) : W p l e R s m args below meth c H locs cells slots Q (F0 m pc ls rest) :=
  hp_new E hR hin tk hty hci hdef hcl hinst hini hcells hslots hdg hp (fun H1 h => kk _ _ H1 rfl rfl hR.fr (hp_mono_nA hR.fr) (by simp [st_nA, st_C]) h)
theorem hx_newa (E : hp_E B D s0 p s m args meth c cc own nm nL ret) (hR : hp_S B D s0 S H locs) {atype : ArrayType} {ty : FieldType} (hty : newarray.typeOf atype = ty) (code k0 : Nat) (htys : (hp_tys D)[k0]? = some (D.1 code, ty)) (hcode : (code = 50 ∧ ty = .int) ∨ (code = 51 ∧ ty = .boolean) ∨ (code = 52 ∧ ty = .byte) ∨ (code = 53 ∧ ty = .long)) (harr : Cond.arrayClass ty ∈ lw_all) {n : Int32} {N : Nat} (hn : ¬ n < 0) (hN : n.toNatClampNeg = N) (hb : N * componentBytes ty ≤ 536870912) (hcells : cells + 1 ≤ R.cells) (hslots : slots + N ≤ R.slots) (hdg : decode cc pc = .ok (.newarray atype, 2)) (hp : pc + 2 = pc')
    (kk : ∀ (n1 : Nat) (S1 : hp_St) (H1 : Heap), n1 = st_Z S → S1 = st_nA S code N → hp_fr S n1 → hp_mono S S1 → st_C S1 n1 = code → hp_S B D s0 S1 H1 locs → W p l e R s m args below meth c H1 locs (cells + 1) (slots + N) Q (F0 m pc' ls (hp_v B n1 :: rest))) : W p l e R s m args below meth c H locs cells slots Q (F0 m pc ls (.int n :: rest)) :=
  hp_newa E hR hty code k0 htys hcode harr hn hN hb hcells hslots hdg hp (fun H1 h => kk _ _ H1 rfl rfl hR.fr (hp_mono_nA hR.fr) (by simp [st_nA, st_C]) h)
theorem hx_anew (E : hp_E B D s0 p s m args meth c cc own nm nL ret) (hR : hp_S B D s0 S H locs) {index : Nat} (M : Nat) (hM : M ≤ 1000000) (hcl : Cond.classLink own index "java/lang/Object" ∈ lw_all) (hover : Cond.arrayOver (.object "java/lang/Object") ∈ lw_tbl) {n : Int32} (hn : ¬ n < 0) (hnM : n.toNatClampNeg ≤ M) (hcells : cells + 1 ≤ R.cells) (hslots : slots + M ≤ R.slots) (hdg : decode cc pc = .ok (.anewarray index, 3)) (hp : pc + 3 = pc')
    (kk : ∀ (n1 : Nat) (S1 : hp_St) (H1 : Heap), n1 = st_Z S → S1 = st_nA S 54 n.toNatClampNeg → hp_fr S n1 → hp_mono S S1 → st_C S1 n1 = 54 → hp_S B D s0 S1 H1 locs → W p l e R s m args below meth c H1 locs (cells + 1) (slots + M) Q (F0 m pc' ls (hp_v B n1 :: rest))) : W p l e R s m args below meth c H locs cells slots Q (F0 m pc ls (.int n :: rest)) :=
  hp_anew E hR M hM hcl hover hn hnM hcells hslots hdg hp (fun H1 h => kk _ _ H1 rfl rfl hR.fr (hp_mono_nA hR.fr) (by simp [st_nA, st_C]) h)
/-- Object.<init> -/
theorem hp_obj (E : hp_E B D s0 p s m args meth c cc own nm nL ret) (hl : lv_has ls nL lv) {n idx : Nat} (hn : n ≠ 0) (q1 : Cond.methodLink own idx Lib.objectInit ∈ lw_all) (q2 : Cond.instanceMethod Lib.objectInit ∈ lw_all) (q3 : Cond.code Lib.objectInit ⟨#[0xb1]⟩ 1 none ∈ lw_all) (hd : decode cc pc = .ok (.invokespecial idx, 3)) (hp : pc + 3 = pc') (hfr : 1 ≤ R.frames) (hsz : rest.length ≤ 4) (hlo : 20 ≤ R.locals)
    (kk : W p l e R s m args below meth c H locs cells slots Q (F0 m pc' ls rest)) : W p l e R s m args below meth c H locs cells slots Q (F0 m pc ls (hp_v B n :: rest)) := by
  subst hp
  rw [hp_vp hn]
  have h8 : 2 * (F0 m pc ls (.ref (B + n) :: rest)).monitorRoom + (rest.map fun v => v.category).sum ≤ 8 := hp_room hsz
  exact W.objInit E.x E.b E.o (E.w q1) (E.w q2) (E.w q3) rfl (by rw [E.ml]; exact hl.1) rfl hd hfr (by omega) kk
end HPX
