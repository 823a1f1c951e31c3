/-! BASE: the heap of the claim as one abstract state: relative names (name n is the cell at B + n), class codes, int and reference contents -/
set_option maxRecDepth 100000
/-- size, class code, length, ints, references, longs -/
abbrev hp_St : Type := Nat × (Nat → Nat) × (Nat → Nat) × (Nat → Nat → Int32) × (Nat → Nat → Nat) × (Nat → Nat → Int64)
def st_Z (S : hp_St) : Nat := S.1
def st_C (S : hp_St) : Nat → Nat := S.2.1
def st_L (S : hp_St) : Nat → Nat := S.2.2.1
def st_I (S : hp_St) : Nat → Nat → Int32 := S.2.2.2.1
def st_R (S : hp_St) : Nat → Nat → Nat := S.2.2.2.2.1
def st_J (S : hp_St) : Nat → Nat → Int64 := S.2.2.2.2.2
def st_pI (S : hp_St) (n k : Nat) (v : Int32) : hp_St := (st_Z S, st_C S, st_L S, (fun a j => if a = n ∧ j = k then v else st_I S a j), st_R S, st_J S)
def st_pR (S : hp_St) (n k : Nat) (v : Nat) : hp_St := (st_Z S, st_C S, st_L S, st_I S, (fun a j => if a = n ∧ j = k then v else st_R S a j), st_J S)
def st_pJ (S : hp_St) (n k : Nat) (v : Int64) : hp_St := (st_Z S, st_C S, st_L S, st_I S, st_R S, (fun a j => if a = n ∧ j = k then v else st_J S a j))
/-- a new cell of code c and length len, blank -/
def st_nA (S : hp_St) (c len : Nat) : hp_St := (st_Z S + 1, (fun a => if a = st_Z S then c else st_C S a), (fun a => if a = st_Z S then len else st_L S a), (fun a j => if a = st_Z S then 0 else st_I S a j), (fun a j => if a = st_Z S then 0 else st_R S a j), (fun a j => if a = st_Z S then 0 else st_J S a j))
/-- a new cell that nobody looks into -/
def st_nU (S : hp_St) : hp_St := (st_Z S + 1, st_C S, st_L S, st_I S, st_R S, st_J S)
/-- a grid: the outer array (code c1) of n rows (code c2) of k places -/
def st_n2 (S : hp_St) (c1 c2 n k : Nat) : hp_St := (st_Z S + 1 + n, (fun a => if a = st_Z S then c1 else if st_Z S < a ∧ a < st_Z S + 1 + n then c2 else st_C S a), (fun a => if a = st_Z S then n else if st_Z S < a ∧ a < st_Z S + 1 + n then k else st_L S a), (fun a j => if st_Z S ≤ a ∧ a < st_Z S + 1 + n then 0 else st_I S a j), (fun a j => if a = st_Z S then st_Z S + 1 + j else st_R S a j), (fun a j => st_J S a j))
theorem st_pI_e {S : hp_St} {n k : Nat} {v : Int32} : st_Z (st_pI S n k v) = st_Z S ∧ st_C (st_pI S n k v) = st_C S ∧ st_L (st_pI S n k v) = st_L S ∧ st_R (st_pI S n k v) = st_R S ∧ st_J (st_pI S n k v) = st_J S ∧ ∀ a j, st_I (st_pI S n k v) a j = if a = n ∧ j = k then v else st_I S a j := ⟨rfl, rfl, rfl, rfl, rfl, fun _ _ => rfl⟩
theorem st_pR_e {S : hp_St} {n k : Nat} {v : Nat} : st_Z (st_pR S n k v) = st_Z S ∧ st_C (st_pR S n k v) = st_C S ∧ st_L (st_pR S n k v) = st_L S ∧ st_I (st_pR S n k v) = st_I S ∧ st_J (st_pR S n k v) = st_J S ∧ ∀ a j, st_R (st_pR S n k v) a j = if a = n ∧ j = k then v else st_R S a j := ⟨rfl, rfl, rfl, rfl, rfl, fun _ _ => rfl⟩
theorem st_pJ_e {S : hp_St} {n k : Nat} {v : Int64} : st_Z (st_pJ S n k v) = st_Z S ∧ st_C (st_pJ S n k v) = st_C S ∧ st_L (st_pJ S n k v) = st_L S ∧ st_I (st_pJ S n k v) = st_I S ∧ st_R (st_pJ S n k v) = st_R S ∧ ∀ a j, st_J (st_pJ S n k v) a j = if a = n ∧ j = k then v else st_J S a j := ⟨rfl, rfl, rfl, rfl, rfl, fun _ _ => rfl⟩
/-- Strike, Death, Proof with 'told' first -/
def TN16 : u_T := fun k => match k with
  | 0 => ("LifeRents$Note", "told", "I", true)
  | 1 => ("LifeRents$Word", "life", "LLifeRents$Life;", true)
  | _ => ("LifeRents$Word", "half", "I", true)
def tyN16 : Nat → FieldType := fun k => match k with
  | 0 => .int
  | 1 => .object "LifeRents$Life"
  | _ => .int
theorem nmN16 : ∀ a, a < 3 → ∀ b, b < 3 → a ≠ b → (TN16 a).2.1 ≠ (TN16 b).2.1 := by decide +kernel
theorem tyN16_ok : ∀ k, k < 3 → parseFieldDescriptor (TN16 k).2.2.1 = some (tyN16 k) := by decide +kernel
/-- the fault's own two fields -/
def TN8 : u_T := fun k => match k with
  | 0 => ("LifeRents$Fault", "kind", "I", true)
  | _ => ("LifeRents$Fault", "place", "I", true)
def tyN8 : Nat → FieldType := fun k => match k with
  | 0 => .int
  | _ => .int
theorem nmN8 : ∀ a, a < 2 → ∀ b, b < 2 → a ≠ b → (TN8 a).2.1 ≠ (TN8 b).2.1 := by decide +kernel
theorem tyN8_ok : ∀ k, k < 2 → parseFieldDescriptor (TN8 k).2.2.1 = some (tyN8 k) := by decide +kernel
theorem in_N16 : ∀ w ∈ u_ws RX16 TN16 3, w ∈ lw_all := lw_in (u_ws RX16 TN16 3) [914, 910, 912] (by decide +kernel) (by decide +kernel)
theorem in_N17 : ∀ w ∈ u_ws RX17 TN16 3, w ∈ lw_all := lw_in (u_ws RX17 TN16 3) [925, 923, 924] (by decide +kernel) (by decide +kernel)
theorem in_N8 : ∀ w ∈ u_ws RX8 TN8 2, w ∈ lw_all := lw_in (u_ws RX8 TN8 2) [532, 534] (by decide +kernel) (by decide +kernel)
/-- the classes; an object's code is its place + 1 -/
def hp_cl : List vw_C := [(RX1, TX1, 19), (RX2, TX2, 8), (RX3, TX3, 6), (RX4, TX4, 5), (RX5, TX5, 3), (RX6, TX6, 11), (RX7, TX7, 58), (RX8, TN8, 2), (RX9, TX9, 8), (RX10, TX10, 3), (RX11, TX11, 7), (RX12, TX12, 8), (RX13, TX13, 4), (RX16, TN16, 3), (RX17, TN16, 3), (RX18, TX18, 2), (RJ2, TJ2, 3), (RX8, TX8, 8)]
/-- arrays: 50 int[], 51 boolean[], 52 byte[], 53 long[], 54 Object[], 55 int[][], 56 boolean[][] -/
def hp_tys (D : va_G) : List (ClassId × FieldType) := [(D.1 50, .int), (D.1 51, .boolean), (D.1 52, .byte), (D.1 53, .long), (D.1 54, .object "java/lang/Object"), (D.1 55, .array .int), (D.1 56, .array .boolean)]
def hp_irT : List (List Bool) := [[true, false, false, false, false, false, true, true, true, true, true, true, true, true, true, true, true, false, false], [false, false, false, false, false, false, true, true], [true, false, false, false, false, false], [true, true, true, false, true], [true, true, true], [true, true, true, true, true, false, false, false, false, false, true], [true, false, false, false, false, true, true, false, true, true, true, true, true, true, false, true, false, true, true, true, true, true, true, false, false, false, false, false, false, false, true, true, true, true, true, true, true, true, false, false, true, true, false, false, true, true, true, true, false, false, false, true, false, true, true, true, true, true], [false, false], [false, false, false, false, false, false, false, false], [false, false, false], [false, false, false, false, true, true, true], [false, false, false, false, true, true, true, true], [false, false, false, false], [false, true, false], [false, true, false], [false, false], [false, true, false]]
/-- is the field j of an object of code c a reference -/
def hp_ir (c j : Nat) : Bool := (hp_irT.getD (c - 1) []).getD j false
def hp_v (B n : Nat) : Value := if n = 0 then .null else .ref (B + n)
theorem hp_v0 {B : Nat} : hp_v B 0 = .null := rfl
theorem hp_vp {B n : Nat} (h : n ≠ 0) : hp_v B n = .ref (B + n) := if_neg h
theorem hp_vc {B n : Nat} : (hp_v B n).category = 1 := by
  unfold hp_v
  split <;> rfl
theorem hp_vr {B n : Nat} : hp_v B n = .null ∨ ∃ a, hp_v B n = .ref a := by
  unfold hp_v
  split
  · exact Or.inl rfl
  · exact Or.inr ⟨_, rfl⟩
def hp_f (B : Nat) (S : hp_St) (n j : Nat) (r : Bool) : Value := if r = true then hp_v B (st_R S n j) else .int (st_I S n j)
/-- a Fault's cell bears all of its fields -/
def hp_big (D : va_G) (H : Heap) (q : Nat) : Prop := ∃ cell : Cell, H[q]? = some cell ∧ ∀ j, j < 8 → D.2 17 j < cell.slots.size
/-- the cell of the name n is what the state says -/
def hp_ck (B : Nat) (D : va_G) (S : hp_St) (H : Heap) (n : Nat) : Prop :=
  if st_C S n < 50 then ∃ r : vw_C, hp_cl[st_C S n - 1]? = some r ∧ t_OB (B + n) (D.1 (st_C S n - 1)) r.2.2 (D.2 (st_C S n - 1)) H (fun j => hp_f B S n j (hp_ir (st_C S n) j)) ∧ (st_C S n = 8 → hp_big D H (B + n))
  else if st_C S n < 53 then H[B + n]? = some (arrV (D.1 (st_C S n)) (st_L S n) (fun j => .int (st_I S n j)))
  else if st_C S n = 53 then H[B + n]? = some (arrV (D.1 53) (st_L S n) (fun j => .long (st_J S n j)))
  else H[B + n]? = some (arrV (D.1 (st_C S n)) (st_L S n) (fun j => hp_v B (st_R S n j)))
def hp_H (B : Nat) (D : va_G) (S : hp_St) (H : Heap) : Prop := H.size = B + st_Z S ∧ 0 < st_Z S ∧ ∀ n, st_C S n ≠ 0 → 0 < n ∧ n < st_Z S ∧ hp_ck B D S H n
/-- a contract's world -/
def hp_W (B : Nat) (D : va_G) (s0 : State) (S : hp_St) (U : State) : Prop := s0.WarmedH U.vm ∧ (∀ q, q ≤ B → U.heap[q]? = s0.heap[q]?) ∧ hp_H B D S U.heap
/-- a walk's world -/
def hp_S (B : Nat) (D : va_G) (s0 : State) (S : hp_St) (H : Heap) (locs : List Loc) : Prop := hp_H B D S H ∧ (∀ q, q ≤ B → H[q]? = s0.heap[q]?) ∧ ∀ q ∈ locs, B < q.base
/-- what is known of the launch's start: words, classes, sizes -/
def hp_G (l : Launch) (B : Nat) (D : va_G) (s0 : State) (b0 : Nat) : Prop := s0.heap.size = B + 1 ∧ (∀ w ∈ lw_tbl, w.before #[Value.ref b0] s0 = true) ∧ va_K D hp_cl (hp_tys D) s0 ∧ l.flags = flags0 ∧ (Jvm.Cond.and given_1 narrow_1).before #[Value.ref b0] s0 = true ∧ ∃ mi : Nat, va_Mi "[Ljava/lang/Object;" mi s0
def hp_rd : Cond → Bool
  | .arrayClass _ => true
  | .arrayOver (.object _) => true
  | .arrayOver (.array _) => true
  | .arrayOver _ => false
  | .castable _ _ => true
  | .declares _ => true
  | .fieldLinkNest _ _ _ _ _ _ => true
  | .methodLinkNest _ _ _ _ => true
  | w => w.onTables && w.keeps
theorem hp_overA {t : FieldType} {A A' : Array Value} {u U : State} (hvm : u.vm.Alike U.vm) (h : (Cond.arrayOver (.array t)).before A u = true) : (Cond.arrayOver (.array t)).before A' U = true := by
  simp only [Cond.before, Cond.holds, Cond.value, beq_iff_eq] at h ⊢
  rw [Option.bind_eq_some_iff] at h ⊢
  obtain ⟨comp, hc, h⟩ := h
  refine ⟨comp, by rw [hvm.findClass]; exact hc, ?_⟩
  rw [Option.bind_eq_some_iff] at h ⊢
  obtain ⟨c, hi, h⟩ := h
  refine ⟨c, ?_, ?_⟩
  · have e1 := va_idx_bare U.vm comp
    have e2 := va_idx_bare u.vm comp
    have hb : U.vm.bare = u.vm.bare := hvm.bare_eq
    rw [hb] at e1
    exact (e1.symm.trans e2).trans hi
  · rw [Option.map_eq_some_iff] at h ⊢
    obtain ⟨k, hk, hb⟩ := h
    obtain ⟨k', hk', he⟩ := hvm.2.2 _ _ hk
    have hkk : k'.kind = k.kind := by rw [he]
    exact ⟨k', hk', by rw [hkk, hvm.findClass]; exact hb⟩
theorem hp_ride {s0 s : State} {A A' : Array Value} {w : Cond} (hW : s0.WarmedH s.vm) (hr : hp_rd w = true) (h : w.before A s0 = true) : w.before A' s = true := by
  have keep : (w.onTables && w.keeps) = true → w.before A' s = true := fun hg => word_at hW (Or.inl hg) h
  cases w with
  | arrayClass ty => exact word_at hW (Or.inr ⟨_, rfl⟩) h
  | arrayOver ty =>
    cases ty with
    | object C => exact va_AO.use (va_AO.moved hW.alike (va_AO.of h))
    | array t => exact hp_overA hW.alike h
    | _ => exact absurd hr (by decide)
  | castable a b => exact va_Nw.use rfl (va_Nw.warmC hW (va_Nw.of rfl h))
  | declares y =>
    have h1 : (Cond.declares y).before A (s0.setVm s.vm) = true := Cond.faceAtom_setVm hW.alike _ rfl h
    exact va_tabs rfl (rfl : (s0.setVm s.vm).vm = s.vm) h1
  | fieldLinkNest a i b n d hh => exact va_Nw.use rfl (va_Nw.warmF hW (va_Nw.of rfl h))
  | methodLinkNest a i x hh => exact va_Nw.use rfl (va_Nw.warmM hW (va_Nw.of rfl h))
  | _ => exact keep hr
theorem hp_rd_of {w : Cond} (h : goodWord w = true) : hp_rd w = true ∨ ∃ ty, w = .arrayClass ty := by
  cases w <;> first | exact Or.inr ⟨_, rfl⟩ | exact Or.inl rfl | exact Or.inl h | exact absurd h (by simp [goodWord, Cond.onTables, Cond.keeps, Cond.steady])
/-- what a walk knows of its method: machine, code, locals, answer, no lock, class, name, words, classes, warmth -/
def hp_E (B : Nat) (D : va_G) (s0 : State) (p : Program) (s : State) (m : MethodId) (args : Array Value) (meth : Method) (c : Code) (cc : ByteArray) (own nm : String) (nL : Nat) (ret : Option FieldType) : Prop :=
  p.tables.exec = Jvm.exec ∧ c.code = cc ∧ c.maxLocals = nL ∧ meth.sig.returnType = ret ∧ meth.locks = false ∧ s.vm.findClass own = some m.cls ∧ meth.name = nm ∧ (∀ w ∈ lw_tbl, hp_rd w = true → w.before args s = true) ∧ va_K D hp_cl (hp_tys D) s ∧ s0.WarmedH s.vm
def hp_o (B n : Nat) : Option Nat := if n = 0 then none else some (B + n)
theorem hp_oe {B n : Nat} : hp_v B n = va_rf (hp_o B n) := by
  unfold hp_v hp_o
  split <;> rfl
theorem hp_oi {B x y : Nat} : hp_o B x = hp_o B y ↔ x = y := by
  unfold hp_o
  constructor
  · intro h
    by_cases hx : x = 0 <;> by_cases hy : y = 0 <;> simp [hx, hy] at h ⊢ <;> omega
  · intro h
    rw [h]
section HPR
variable {p : Program} {l : Launch} {e : Env} {R : Room} {s : State} {m : MethodId} {args : Array Value} {below : List Frame} {meth : Method} {c : Code} {H : Heap} {locs : List Loc} {cells slots : Nat} {Q : State → Prop}
variable {B : Nat} {D : va_G} {s0 : State} {S : hp_St} {cc : ByteArray} {own nm : String} {nL : Nat} {ret : Option FieldType} {pc pc' : Nat} {ls : Array Slot} {rest : List Value} {lv : List (Nat × Value)}
theorem hp_E.x (E : hp_E B D s0 p s m args meth c cc own nm nL ret) : p.tables.exec = Jvm.exec := E.1
theorem hp_E.b (E : hp_E B D s0 p s m args meth c cc own nm nL ret) : c.code = cc := E.2.1
theorem hp_E.ml (E : hp_E B D s0 p s m args meth c cc own nm nL ret) : c.maxLocals = nL := E.2.2.1
theorem hp_E.r (E : hp_E B D s0 p s m args meth c cc own nm nL ret) : meth.sig.returnType = ret := E.2.2.2.1
theorem hp_E.lk (E : hp_E B D s0 p s m args meth c cc own nm nL ret) : meth.locks = false := E.2.2.2.2.1
theorem hp_E.o (E : hp_E B D s0 p s m args meth c cc own nm nL ret) : s.vm.findClass own = some m.cls := E.2.2.2.2.2.1
theorem hp_E.nmm (E : hp_E B D s0 p s m args meth c cc own nm nL ret) : meth.name = nm := E.2.2.2.2.2.2.1
theorem hp_E.n (E : hp_E B D s0 p s m args meth c cc own nm nL ret) {w : Cond} (h : w ∈ lw_tbl) (hr : hp_rd w = true) : w.before args s = true := E.2.2.2.2.2.2.2.1 w h hr
theorem hp_E.w (E : hp_E B D s0 p s m args meth c cc own nm nL ret) {w : Cond} (h : w ∈ lw_all) : w.before args s = true := by
  rcases hp_rd_of (List.mem_filter.mp h).2 with h1 | ⟨ty, rfl⟩
  · exact E.n (lw_all_tbl h) h1
  · exact E.n (lw_all_tbl h) rfl
theorem hp_E.all (E : hp_E B D s0 p s m args meth c cc own nm nL ret) : ∀ w ∈ lw_all, w.before args s = true := fun w h => E.w h
theorem hp_E.K (E : hp_E B D s0 p s m args meth c cc own nm nL ret) : va_K D hp_cl (hp_tys D) s := E.2.2.2.2.2.2.2.2.1
theorem hp_E.W (E : hp_E B D s0 p s m args meth c cc own nm nL ret) : s0.WarmedH s.vm := E.2.2.2.2.2.2.2.2.2
theorem hp_iconst (E : hp_E B D s0 p s m args meth c cc own nm nL ret) {n : Int} (v : Int32) (hv : Int32.ofInt n = v) (hdg : decode cc pc = .ok (.iconst n, 1)) (hp : pc + 1 = pc') (kk : W p l e R s m args below meth c H locs cells slots Q (F0 m pc' ls (.int v :: rest))) : W p l e R s m args below meth c H locs cells slots Q (F0 m pc ls (rest)) := by
  subst hp
  exact lv_iconst E.x E.b hdg hv kk
theorem hp_bipush (E : hp_E B D s0 p s m args meth c cc own nm nL ret) {n : Int} (v : Int32) (hv : (Int8.ofInt n).toInt32 = v) (hdg : decode cc pc = .ok (.bipush n, 2)) (hp : pc + 2 = pc') (kk : W p l e R s m args below meth c H locs cells slots Q (F0 m pc' ls (.int v :: rest))) : W p l e R s m args below meth c H locs cells slots Q (F0 m pc ls (rest)) := by
  subst hp
  exact lv_bipush E.x E.b hdg hv kk
theorem hp_sipush (E : hp_E B D s0 p s m args meth c cc own nm nL ret) {n : Int} (v : Int32) (hv : (Int16.ofInt n).toInt32 = v) (hdg : decode cc pc = .ok (.sipush n, 3)) (hp : pc + 3 = pc') (kk : W p l e R s m args below meth c H locs cells slots Q (F0 m pc' ls (.int v :: rest))) : W p l e R s m args below meth c H locs cells slots Q (F0 m pc ls (rest)) := by
  subst hp
  exact lv_sipush E.x E.b hdg hv kk
theorem hp_ldc (E : hp_E B D s0 p s m args meth c cc own nm nL ret) {i : Nat} {v : Int32} (q : Cond.constant own i v ∈ lw_all) (hdg : decode cc pc = .ok (.ldc i, 2)) (hp : pc + 2 = pc') (kk : W p l e R s m args below meth c H locs cells slots Q (F0 m pc' ls (.int v :: rest))) : W p l e R s m args below meth c H locs cells slots Q (F0 m pc ls (rest)) := by
  subst hp
  exact lv_ldc E.x E.b E.o (E.w q) hdg kk
theorem hp_ldcw (E : hp_E B D s0 p s m args meth c cc own nm nL ret) {i : Nat} {v : Int32} (q : Cond.constant own i v ∈ lw_all) (hdg : decode cc pc = .ok (.ldc_w i, 3)) (hp : pc + 3 = pc') (kk : W p l e R s m args below meth c H locs cells slots Q (F0 m pc' ls (.int v :: rest))) : W p l e R s m args below meth c H locs cells slots Q (F0 m pc ls (rest)) := by
  subst hp
  exact lv_ldcw E.x E.b E.o (E.w q) hdg kk
theorem hp_ldc2 (E : hp_E B D s0 p s m args meth c cc own nm nL ret) {i : Nat} {v : Int64} (q : Cond.constantLong own i v ∈ lw_all) (hdg : decode cc pc = .ok (.ldc2_w i, 3)) (hp : pc + 3 = pc') (kk : W p l e R s m args below meth c H locs cells slots Q (F0 m pc' ls (.long v :: rest))) : W p l e R s m args below meth c H locs cells slots Q (F0 m pc ls (rest)) := by
  subst hp
  exact lv_ldc2 E.x E.b E.o (E.w q) hdg kk
theorem hp_lconst (E : hp_E B D s0 p s m args meth c cc own nm nL ret) {n : Fin 2} (v : Int64) (hv : Int64.ofNat (n : Nat) = v) (hdg : decode cc pc = .ok (.lconst n, 1)) (hp : pc + 1 = pc') (kk : W p l e R s m args below meth c H locs cells slots Q (F0 m pc' ls (.long v :: rest))) : W p l e R s m args below meth c H locs cells slots Q (F0 m pc ls (rest)) := by
  subst hp
  exact lv_lconst E.x E.b hdg hv kk
theorem hp_null (E : hp_E B D s0 p s m args meth c cc own nm nL ret)  (hdg : decode cc pc = .ok (.aconst_null, 1)) (hp : pc + 1 = pc') (kk : W p l e R s m args below meth c H locs cells slots Q (F0 m pc' ls (hp_v B 0 :: rest))) : W p l e R s m args below meth c H locs cells slots Q (F0 m pc ls (rest)) := by
  subst hp
  exact lv_null E.x E.b hdg kk
theorem hp_iload_n (E : hp_E B D s0 p s m args meth c cc own nm nL ret) (hl : lv_has ls nL lv) {k0 : Fin 4} (i : Nat) (hi : (k0 : Nat) = i) {x : Int32} (k : Nat) (hk : lv[k]? = some (i, .int x)) (hdg : decode cc pc = .ok (.iload_n k0, 1)) (hp : pc + 1 = pc') (kk : W p l e R s m args below meth c H locs cells slots Q (F0 m pc' ls (.int x :: rest))) : W p l e R s m args below meth c H locs cells slots Q (F0 m pc ls (rest)) := by
  subst hp
  exact lv_iload_n E.x E.b hdg hi (lv_at hl k hk) kk
theorem hp_lload_n (E : hp_E B D s0 p s m args meth c cc own nm nL ret) (hl : lv_has ls nL lv) {k0 : Fin 4} (i : Nat) (hi : (k0 : Nat) = i) {x : Int64} (k : Nat) (hk : lv[k]? = some (i, .long x)) (hdg : decode cc pc = .ok (.lload_n k0, 1)) (hp : pc + 1 = pc') (kk : W p l e R s m args below meth c H locs cells slots Q (F0 m pc' ls (.long x :: rest))) : W p l e R s m args below meth c H locs cells slots Q (F0 m pc ls (rest)) := by
  subst hp
  exact lv_lload_n E.x E.b hdg hi (lv_at hl k hk) kk
theorem hp_iload (E : hp_E B D s0 p s m args meth c cc own nm nL ret) (hl : lv_has ls nL lv) {i : Nat} {x : Int32} (k : Nat) (hk : lv[k]? = some (i, .int x)) (hdg : decode cc pc = .ok (.iload i, 2)) (hp : pc + 2 = pc') (kk : W p l e R s m args below meth c H locs cells slots Q (F0 m pc' ls (.int x :: rest))) : W p l e R s m args below meth c H locs cells slots Q (F0 m pc ls (rest)) := by
  subst hp
  exact lv_iload E.x E.b hdg (lv_at hl k hk) kk
theorem hp_lload (E : hp_E B D s0 p s m args meth c cc own nm nL ret) (hl : lv_has ls nL lv) {i : Nat} {x : Int64} (k : Nat) (hk : lv[k]? = some (i, .long x)) (hdg : decode cc pc = .ok (.lload i, 2)) (hp : pc + 2 = pc') (kk : W p l e R s m args below meth c H locs cells slots Q (F0 m pc' ls (.long x :: rest))) : W p l e R s m args below meth c H locs cells slots Q (F0 m pc ls (rest)) := by
  subst hp
  exact lv_lload E.x E.b hdg (lv_at hl k hk) kk
theorem hp_aload_n (E : hp_E B D s0 p s m args meth c cc own nm nL ret) (hl : lv_has ls nL lv) {k0 : Fin 4} (i : Nat) (hi : (k0 : Nat) = i) {x : Nat} (k : Nat) (hk : lv[k]? = some (i, hp_v B x)) (hdg : decode cc pc = .ok (.aload_n k0, 1)) (hp : pc + 1 = pc') (kk : W p l e R s m args below meth c H locs cells slots Q (F0 m pc' ls (hp_v B x :: rest))) : W p l e R s m args below meth c H locs cells slots Q (F0 m pc ls (rest)) := by
  subst hp
  have h1 := lv_at hl k hk
  by_cases hx : x = 0
  · subst hx
    exact lv_aload_nN E.x E.b hdg hi h1 kk
  · rw [hp_vp hx] at h1 kk
    exact lv_aload_n E.x E.b hdg hi h1 kk
theorem hp_aload (E : hp_E B D s0 p s m args meth c cc own nm nL ret) (hl : lv_has ls nL lv) {i : Nat} {x : Nat} (k : Nat) (hk : lv[k]? = some (i, hp_v B x)) (hdg : decode cc pc = .ok (.aload i, 2)) (hp : pc + 2 = pc') (kk : W p l e R s m args below meth c H locs cells slots Q (F0 m pc' ls (hp_v B x :: rest))) : W p l e R s m args below meth c H locs cells slots Q (F0 m pc ls (rest)) := by
  subst hp
  have h1 := lv_at hl k hk
  by_cases hx : x = 0
  · subst hx
    exact lv_aloadN E.x E.b hdg h1 kk
  · rw [hp_vp hx] at h1 kk
    exact lv_aload E.x E.b hdg h1 kk
theorem hp_istore_n (E : hp_E B D s0 p s m args meth c cc own nm nL ret) (hl : lv_has ls nL lv) {k0 : Fin 4} (i : Nat) (hi : (k0 : Nat) = i) {x : Int32} {lv' : List (Nat × Value)} (hdg : decode cc pc = .ok (.istore_n k0, 1)) (hp : pc + 1 = pc') (hn : i < nL) (hf : lv.filter (fun q => !(q.1 == i) && !(q.1 + 1 == i && q.2.category == 2)) = lv') (kk : ∀ ls' : Array Slot, lv_has ls' nL ((i, .int x) :: lv') → W p l e R s m args below meth c H locs cells slots Q (F0 m pc' ls' rest)) : W p l e R s m args below meth c H locs cells slots Q (F0 m pc ls (.int x :: rest)) := by
  subst hp
  exact lv_istore_n E.x E.b hdg hi hl hn (by rw [hf]) kk
theorem hp_istore (E : hp_E B D s0 p s m args meth c cc own nm nL ret) (hl : lv_has ls nL lv) (i : Nat) {x : Int32} {lv' : List (Nat × Value)} (hdg : decode cc pc = .ok (.istore i, 2)) (hp : pc + 2 = pc') (hn : i < nL) (hf : lv.filter (fun q => !(q.1 == i) && !(q.1 + 1 == i && q.2.category == 2)) = lv') (kk : ∀ ls' : Array Slot, lv_has ls' nL ((i, .int x) :: lv') → W p l e R s m args below meth c H locs cells slots Q (F0 m pc' ls' rest)) : W p l e R s m args below meth c H locs cells slots Q (F0 m pc ls (.int x :: rest)) := by
  subst hp
  exact lv_istore E.x E.b hdg hl hn (by rw [hf]) kk
theorem hp_lstore_n (E : hp_E B D s0 p s m args meth c cc own nm nL ret) (hl : lv_has ls nL lv) {k0 : Fin 4} (i : Nat) (hi : (k0 : Nat) = i) {x : Int64} {lv' : List (Nat × Value)} (hdg : decode cc pc = .ok (.lstore_n k0, 1)) (hp : pc + 1 = pc') (hn : i + 1 < nL) (hf : lv.filter (fun q => !(q.1 == i) && (!(q.1 == i + 1) && !(q.1 + 1 == i && q.2.category == 2))) = lv') (kk : ∀ ls' : Array Slot, lv_has ls' nL ((i, .long x) :: lv') → W p l e R s m args below meth c H locs cells slots Q (F0 m pc' ls' rest)) : W p l e R s m args below meth c H locs cells slots Q (F0 m pc ls (.long x :: rest)) := by
  subst hp
  exact lv_lstore_n E.x E.b hdg hi hl hn (by rw [hf]) kk
theorem hp_lstore (E : hp_E B D s0 p s m args meth c cc own nm nL ret) (hl : lv_has ls nL lv) (i : Nat) {x : Int64} {lv' : List (Nat × Value)} (hdg : decode cc pc = .ok (.lstore i, 2)) (hp : pc + 2 = pc') (hn : i + 1 < nL) (hf : lv.filter (fun q => !(q.1 == i) && (!(q.1 == i + 1) && !(q.1 + 1 == i && q.2.category == 2))) = lv') (kk : ∀ ls' : Array Slot, lv_has ls' nL ((i, .long x) :: lv') → W p l e R s m args below meth c H locs cells slots Q (F0 m pc' ls' rest)) : W p l e R s m args below meth c H locs cells slots Q (F0 m pc ls (.long x :: rest)) := by
  subst hp
  exact lv_lstore E.x E.b hdg hl hn (by rw [hf]) kk
theorem hp_astore_n (E : hp_E B D s0 p s m args meth c cc own nm nL ret) (hl : lv_has ls nL lv) {k0 : Fin 4} (i : Nat) (hi : (k0 : Nat) = i) {x : Nat} {lv' : List (Nat × Value)} (hdg : decode cc pc = .ok (.astore_n k0, 1)) (hp : pc + 1 = pc') (hn : i < nL) (hf : lv.filter (fun q => !(q.1 == i) && !(q.1 + 1 == i && q.2.category == 2)) = lv') (kk : ∀ ls' : Array Slot, lv_has ls' nL ((i, hp_v B x) :: lv') → W p l e R s m args below meth c H locs cells slots Q (F0 m pc' ls' rest)) : W p l e R s m args below meth c H locs cells slots Q (F0 m pc ls (hp_v B x :: rest)) := by
  subst hp
  by_cases hx : x = 0
  · subst hx
    exact lv_astore_nN E.x E.b hdg hi hl hn (by rw [hf]; rfl) kk
  · rw [hp_vp hx] at kk ⊢
    exact lv_astore_n E.x E.b hdg hi hl hn (by rw [hf]) kk
theorem hp_astore (E : hp_E B D s0 p s m args meth c cc own nm nL ret) (hl : lv_has ls nL lv) (i : Nat) {x : Nat} {lv' : List (Nat × Value)} (hdg : decode cc pc = .ok (.astore i, 2)) (hp : pc + 2 = pc') (hn : i < nL) (hf : lv.filter (fun q => !(q.1 == i) && !(q.1 + 1 == i && q.2.category == 2)) = lv') (kk : ∀ ls' : Array Slot, lv_has ls' nL ((i, hp_v B x) :: lv') → W p l e R s m args below meth c H locs cells slots Q (F0 m pc' ls' rest)) : W p l e R s m args below meth c H locs cells slots Q (F0 m pc ls (hp_v B x :: rest)) := by
  subst hp
  by_cases hx : x = 0
  · subst hx
    exact lv_astoreN E.x E.b hdg hl hn (by rw [hf]; rfl) kk
  · rw [hp_vp hx] at kk ⊢
    exact lv_astore E.x E.b hdg hl hn (by rw [hf]) kk
theorem hp_iinc (E : hp_E B D s0 p s m args meth c cc own nm nL ret) (hl : lv_has ls nL lv) {i : Nat} {n : Int} {x : Int32} (v : Int32) (k : Nat) {lv' : List (Nat × Value)} (hdg : decode cc pc = .ok (.iinc i n, 3)) (hp : pc + 3 = pc') (hk : lv[k]? = some (i, .int x)) (hv : x + Int32.ofInt n = v) (hn : i < nL) (hf : lv.filter (fun q => !(q.1 == i) && !(q.1 + 1 == i && q.2.category == 2)) = lv') (kk : ∀ ls' : Array Slot, lv_has ls' nL ((i, .int v) :: lv') → W p l e R s m args below meth c H locs cells slots Q (F0 m pc' ls' rest)) : W p l e R s m args below meth c H locs cells slots Q (F0 m pc ls rest) := by
  subst hp
  exact lv_iinc E.x E.b hdg hl hk hv hn (by rw [hf]) kk
theorem hp_iadd (E : hp_E B D s0 p s m args meth c cc own nm nL ret) {x y : Int32} (hdg : decode cc pc = .ok (.iadd, 1)) (hp : pc + 1 = pc') (kk : W p l e R s m args below meth c H locs cells slots Q (F0 m pc' ls (.int (x + y) :: rest))) : W p l e R s m args below meth c H locs cells slots Q (F0 m pc ls (.int y :: .int x :: rest)) := by
  subst hp
  exact lv_iadd E.x E.b hdg kk
theorem hp_isub (E : hp_E B D s0 p s m args meth c cc own nm nL ret) {x y : Int32} (hdg : decode cc pc = .ok (.isub, 1)) (hp : pc + 1 = pc') (kk : W p l e R s m args below meth c H locs cells slots Q (F0 m pc' ls (.int (x - y) :: rest))) : W p l e R s m args below meth c H locs cells slots Q (F0 m pc ls (.int y :: .int x :: rest)) := by
  subst hp
  exact lv_isub E.x E.b hdg kk
theorem hp_imul (E : hp_E B D s0 p s m args meth c cc own nm nL ret) {x y : Int32} (hdg : decode cc pc = .ok (.imul, 1)) (hp : pc + 1 = pc') (kk : W p l e R s m args below meth c H locs cells slots Q (F0 m pc' ls (.int (x * y) :: rest))) : W p l e R s m args below meth c H locs cells slots Q (F0 m pc ls (.int y :: .int x :: rest)) := by
  subst hp
  exact lv_imul E.x E.b hdg kk
theorem hp_iand (E : hp_E B D s0 p s m args meth c cc own nm nL ret) {x y : Int32} (hdg : decode cc pc = .ok (.iand, 1)) (hp : pc + 1 = pc') (kk : W p l e R s m args below meth c H locs cells slots Q (F0 m pc' ls (.int (x &&& y) :: rest))) : W p l e R s m args below meth c H locs cells slots Q (F0 m pc ls (.int y :: .int x :: rest)) := by
  subst hp
  exact lv_iand E.x E.b hdg kk
theorem hp_ior (E : hp_E B D s0 p s m args meth c cc own nm nL ret) {x y : Int32} (hdg : decode cc pc = .ok (.ior, 1)) (hp : pc + 1 = pc') (kk : W p l e R s m args below meth c H locs cells slots Q (F0 m pc' ls (.int (x ||| y) :: rest))) : W p l e R s m args below meth c H locs cells slots Q (F0 m pc ls (.int y :: .int x :: rest)) := by
  subst hp
  exact lv_ior E.x E.b hdg kk
theorem hp_ishl (E : hp_E B D s0 p s m args meth c cc own nm nL ret) {x y : Int32} (hdg : decode cc pc = .ok (.ishl, 1)) (hp : pc + 1 = pc') (kk : W p l e R s m args below meth c H locs cells slots Q (F0 m pc' ls (.int (x <<< (y &&& 31)) :: rest))) : W p l e R s m args below meth c H locs cells slots Q (F0 m pc ls (.int y :: .int x :: rest)) := by
  subst hp
  exact lv_ishl E.x E.b hdg kk
theorem hp_ishr (E : hp_E B D s0 p s m args meth c cc own nm nL ret) {x y : Int32} (hdg : decode cc pc = .ok (.ishr, 1)) (hp : pc + 1 = pc') (kk : W p l e R s m args below meth c H locs cells slots Q (F0 m pc' ls (.int (x >>> (y &&& 31)) :: rest))) : W p l e R s m args below meth c H locs cells slots Q (F0 m pc ls (.int y :: .int x :: rest)) := by
  subst hp
  exact lv_ishr E.x E.b hdg kk
theorem hp_idiv (E : hp_E B D s0 p s m args meth c cc own nm nL ret) {x y : Int32} (hne : ¬ y = 0) (hdg : decode cc pc = .ok (.idiv, 1)) (hp : pc + 1 = pc') (kk : W p l e R s m args below meth c H locs cells slots Q (F0 m pc' ls (.int (x / y) :: rest))) : W p l e R s m args below meth c H locs cells slots Q (F0 m pc ls (.int y :: .int x :: rest)) := by
  subst hp
  exact lv_idiv E.x E.b hdg hne kk
theorem hp_irem (E : hp_E B D s0 p s m args meth c cc own nm nL ret) {x y : Int32} (hne : ¬ y = 0) (hdg : decode cc pc = .ok (.irem, 1)) (hp : pc + 1 = pc') (kk : W p l e R s m args below meth c H locs cells slots Q (F0 m pc' ls (.int (x - x / y * y) :: rest))) : W p l e R s m args below meth c H locs cells slots Q (F0 m pc ls (.int y :: .int x :: rest)) := by
  subst hp
  exact lv_irem E.x E.b hdg hne kk
theorem hp_ineg (E : hp_E B D s0 p s m args meth c cc own nm nL ret) {x : Int32} (hdg : decode cc pc = .ok (.ineg, 1)) (hp : pc + 1 = pc') (kk : W p l e R s m args below meth c H locs cells slots Q (F0 m pc' ls (.int (-x) :: rest))) : W p l e R s m args below meth c H locs cells slots Q (F0 m pc ls (.int x :: rest)) := by
  subst hp
  exact lv_ineg E.x E.b hdg kk
theorem hp_i2b (E : hp_E B D s0 p s m args meth c cc own nm nL ret) {x : Int32} (hdg : decode cc pc = .ok (.i2b, 1)) (hp : pc + 1 = pc') (kk : W p l e R s m args below meth c H locs cells slots Q (F0 m pc' ls (.int x.toInt8.toInt32 :: rest))) : W p l e R s m args below meth c H locs cells slots Q (F0 m pc ls (.int x :: rest)) := by
  subst hp
  exact lv_i2b E.x E.b hdg rfl kk
theorem hp_i2l (E : hp_E B D s0 p s m args meth c cc own nm nL ret) {x : Int32} (hdg : decode cc pc = .ok (.i2l, 1)) (hp : pc + 1 = pc') (kk : W p l e R s m args below meth c H locs cells slots Q (F0 m pc' ls (.long x.toInt64 :: rest))) : W p l e R s m args below meth c H locs cells slots Q (F0 m pc ls (.int x :: rest)) := by
  subst hp
  exact lv_i2l E.x E.b hdg rfl kk
theorem hp_ladd (E : hp_E B D s0 p s m args meth c cc own nm nL ret) {x y : Int64} (hdg : decode cc pc = .ok (.ladd, 1)) (hp : pc + 1 = pc') (kk : W p l e R s m args below meth c H locs cells slots Q (F0 m pc' ls (.long (x + y) :: rest))) : W p l e R s m args below meth c H locs cells slots Q (F0 m pc ls (.long y :: .long x :: rest)) := by
  subst hp
  exact lv_ladd E.x E.b hdg kk
theorem hp_lmul (E : hp_E B D s0 p s m args meth c cc own nm nL ret) {x y : Int64} (hdg : decode cc pc = .ok (.lmul, 1)) (hp : pc + 1 = pc') (kk : W p l e R s m args below meth c H locs cells slots Q (F0 m pc' ls (.long (x * y) :: rest))) : W p l e R s m args below meth c H locs cells slots Q (F0 m pc ls (.long y :: .long x :: rest)) := by
  subst hp
  exact lv_lmul E.x E.b hdg kk
theorem hp_ldiv (E : hp_E B D s0 p s m args meth c cc own nm nL ret) {x y : Int64} (hne : ¬ y = 0) (hdg : decode cc pc = .ok (.ldiv, 1)) (hp : pc + 1 = pc') (kk : W p l e R s m args below meth c H locs cells slots Q (F0 m pc' ls (.long (x / y) :: rest))) : W p l e R s m args below meth c H locs cells slots Q (F0 m pc ls (.long y :: .long x :: rest)) := by
  subst hp
  exact lv_ldiv E.x E.b hdg hne kk
theorem hp_lcmp (E : hp_E B D s0 p s m args meth c cc own nm nL ret) {x y : Int64} (hdg : decode cc pc = .ok (.lcmp, 1)) (hp : pc + 1 = pc') (kk : W p l e R s m args below meth c H locs cells slots Q (F0 m pc' ls (.int (lg_cmp x y) :: rest))) : W p l e R s m args below meth c H locs cells slots Q (F0 m pc ls (.long y :: .long x :: rest)) := by
  subst hp
  exact W.lcmp E.x E.b hdg kk
theorem hp_dup (E : hp_E B D s0 p s m args meth c cc own nm nL ret) {va : Value} (hc : va.category = 1) (hdg : decode cc pc = .ok (.dup, 1)) (hp : pc + 1 = pc') (kk : W p l e R s m args below meth c H locs cells slots Q (F0 m pc' ls (va :: va :: rest))) : W p l e R s m args below meth c H locs cells slots Q (F0 m pc ls (va :: rest)) := by
  subst hp
  exact lv_dup E.x E.b hdg hc kk
theorem hp_pop (E : hp_E B D s0 p s m args meth c cc own nm nL ret) {va : Value} (hc : va.category = 1) (hdg : decode cc pc = .ok (.pop, 1)) (hp : pc + 1 = pc') (kk : W p l e R s m args below meth c H locs cells slots Q (F0 m pc' ls (rest))) : W p l e R s m args below meth c H locs cells slots Q (F0 m pc ls (va :: rest)) := by
  subst hp
  exact lv_pop E.x E.b hdg hc kk
theorem hp_dup_x1 (E : hp_E B D s0 p s m args meth c cc own nm nL ret) {va vb : Value} (hc : va.category = 1) (hc2 : vb.category = 1) (hdg : decode cc pc = .ok (.dup_x1, 1)) (hp : pc + 1 = pc') (kk : W p l e R s m args below meth c H locs cells slots Q (F0 m pc' ls (va :: vb :: va :: rest))) : W p l e R s m args below meth c H locs cells slots Q (F0 m pc ls (va :: vb :: rest)) := by
  subst hp
  exact lv_dup_x1 E.x E.b hdg hc hc2 kk
theorem hp_dup2 (E : hp_E B D s0 p s m args meth c cc own nm nL ret) {va vb : Value} (hc : va.category = 1) (hc2 : vb.category = 1) (hdg : decode cc pc = .ok (.dup2, 1)) (hp : pc + 1 = pc') (kk : W p l e R s m args below meth c H locs cells slots Q (F0 m pc' ls (va :: vb :: va :: vb :: rest))) : W p l e R s m args below meth c H locs cells slots Q (F0 m pc ls (va :: vb :: rest)) := by
  subst hp
  exact lv_dup2_11 E.x E.b hdg hc hc2 kk
theorem hp_icmp_eq (E : hp_E B D s0 p s m args meth c cc own nm nL ret) {x y : Int32} {off : Int} {tgt : Nat} (hdg : decode cc pc = .ok (.if_icmp .eq off, 3)) (hp : pc + 3 = pc') (ht : (pc : Int) + off = (tgt : Int)) (kt : x = y → W p l e R s m args below meth c H locs cells slots Q (F0 m tgt ls rest)) (kf : ¬ x = y → W p l e R s m args below meth c H locs cells slots Q (F0 m pc' ls rest)) : W p l e R s m args below meth c H locs cells slots Q (F0 m pc ls (.int y :: .int x :: rest)) := by
  subst hp
  exact lv_icmp_eq E.x E.b hdg ht kt kf
theorem hp_icmp_ne (E : hp_E B D s0 p s m args meth c cc own nm nL ret) {x y : Int32} {off : Int} {tgt : Nat} (hdg : decode cc pc = .ok (.if_icmp .ne off, 3)) (hp : pc + 3 = pc') (ht : (pc : Int) + off = (tgt : Int)) (kt : x = y → W p l e R s m args below meth c H locs cells slots Q (F0 m pc' ls rest)) (kf : ¬ x = y → W p l e R s m args below meth c H locs cells slots Q (F0 m tgt ls rest)) : W p l e R s m args below meth c H locs cells slots Q (F0 m pc ls (.int y :: .int x :: rest)) := by
  subst hp
  exact lv_icmp_ne E.x E.b hdg ht (fun h => kf h) (fun h => kt (by first | exact h | exact Classical.not_not.mp h))
theorem hp_icmp_lt (E : hp_E B D s0 p s m args meth c cc own nm nL ret) {x y : Int32} {off : Int} {tgt : Nat} (hdg : decode cc pc = .ok (.if_icmp .lt off, 3)) (hp : pc + 3 = pc') (ht : (pc : Int) + off = (tgt : Int)) (kt : x < y → W p l e R s m args below meth c H locs cells slots Q (F0 m tgt ls rest)) (kf : ¬ x < y → W p l e R s m args below meth c H locs cells slots Q (F0 m pc' ls rest)) : W p l e R s m args below meth c H locs cells slots Q (F0 m pc ls (.int y :: .int x :: rest)) := by
  subst hp
  exact lv_icmp_lt E.x E.b hdg ht kt kf
theorem hp_icmp_ge (E : hp_E B D s0 p s m args meth c cc own nm nL ret) {x y : Int32} {off : Int} {tgt : Nat} (hdg : decode cc pc = .ok (.if_icmp .ge off, 3)) (hp : pc + 3 = pc') (ht : (pc : Int) + off = (tgt : Int)) (kt : x < y → W p l e R s m args below meth c H locs cells slots Q (F0 m pc' ls rest)) (kf : ¬ x < y → W p l e R s m args below meth c H locs cells slots Q (F0 m tgt ls rest)) : W p l e R s m args below meth c H locs cells slots Q (F0 m pc ls (.int y :: .int x :: rest)) := by
  subst hp
  exact lv_icmp_ge E.x E.b hdg ht (fun h => kf (Int32.not_lt.mpr h)) (fun h => kt (Int32.not_le.mp h))
theorem hp_icmp_gt (E : hp_E B D s0 p s m args meth c cc own nm nL ret) {x y : Int32} {off : Int} {tgt : Nat} (hdg : decode cc pc = .ok (.if_icmp .gt off, 3)) (hp : pc + 3 = pc') (ht : (pc : Int) + off = (tgt : Int)) (kt : x ≤ y → W p l e R s m args below meth c H locs cells slots Q (F0 m pc' ls rest)) (kf : ¬ x ≤ y → W p l e R s m args below meth c H locs cells slots Q (F0 m tgt ls rest)) : W p l e R s m args below meth c H locs cells slots Q (F0 m pc ls (.int y :: .int x :: rest)) := by
  subst hp
  exact lv_icmp_gt E.x E.b hdg ht (fun h => kf (Int32.not_le.mpr h)) (fun h => kt (Int32.not_lt.mp h))
theorem hp_icmp_le (E : hp_E B D s0 p s m args meth c cc own nm nL ret) {x y : Int32} {off : Int} {tgt : Nat} (hdg : decode cc pc = .ok (.if_icmp .le off, 3)) (hp : pc + 3 = pc') (ht : (pc : Int) + off = (tgt : Int)) (kt : x ≤ y → W p l e R s m args below meth c H locs cells slots Q (F0 m tgt ls rest)) (kf : ¬ x ≤ y → W p l e R s m args below meth c H locs cells slots Q (F0 m pc' ls rest)) : W p l e R s m args below meth c H locs cells slots Q (F0 m pc ls (.int y :: .int x :: rest)) := by
  subst hp
  exact lv_icmp_le E.x E.b hdg ht kt kf
theorem hp_if_eq (E : hp_E B D s0 p s m args meth c cc own nm nL ret) {x : Int32} {off : Int} {tgt : Nat} (hdg : decode cc pc = .ok (.ifCond .eq off, 3)) (hp : pc + 3 = pc') (ht : (pc : Int) + off = (tgt : Int)) (kt : x = 0 → W p l e R s m args below meth c H locs cells slots Q (F0 m tgt ls rest)) (kf : ¬ x = 0 → W p l e R s m args below meth c H locs cells slots Q (F0 m pc' ls rest)) : W p l e R s m args below meth c H locs cells slots Q (F0 m pc ls (.int x :: rest)) := by
  subst hp
  exact lv_if_eq E.x E.b hdg ht kt kf
theorem hp_if_ne (E : hp_E B D s0 p s m args meth c cc own nm nL ret) {x : Int32} {off : Int} {tgt : Nat} (hdg : decode cc pc = .ok (.ifCond .ne off, 3)) (hp : pc + 3 = pc') (ht : (pc : Int) + off = (tgt : Int)) (kt : x = 0 → W p l e R s m args below meth c H locs cells slots Q (F0 m pc' ls rest)) (kf : ¬ x = 0 → W p l e R s m args below meth c H locs cells slots Q (F0 m tgt ls rest)) : W p l e R s m args below meth c H locs cells slots Q (F0 m pc ls (.int x :: rest)) := by
  subst hp
  exact lv_if_ne E.x E.b hdg ht (fun h => kf h) (fun h => kt h)
theorem hp_if_lt (E : hp_E B D s0 p s m args meth c cc own nm nL ret) {x : Int32} {off : Int} {tgt : Nat} (hdg : decode cc pc = .ok (.ifCond .lt off, 3)) (hp : pc + 3 = pc') (ht : (pc : Int) + off = (tgt : Int)) (kt : x < 0 → W p l e R s m args below meth c H locs cells slots Q (F0 m tgt ls rest)) (kf : ¬ x < 0 → W p l e R s m args below meth c H locs cells slots Q (F0 m pc' ls rest)) : W p l e R s m args below meth c H locs cells slots Q (F0 m pc ls (.int x :: rest)) := by
  subst hp
  exact lv_if_lt E.x E.b hdg ht kt kf
theorem hp_if_ge (E : hp_E B D s0 p s m args meth c cc own nm nL ret) {x : Int32} {off : Int} {tgt : Nat} (hdg : decode cc pc = .ok (.ifCond .ge off, 3)) (hp : pc + 3 = pc') (ht : (pc : Int) + off = (tgt : Int)) (kt : x < 0 → W p l e R s m args below meth c H locs cells slots Q (F0 m pc' ls rest)) (kf : ¬ x < 0 → W p l e R s m args below meth c H locs cells slots Q (F0 m tgt ls rest)) : W p l e R s m args below meth c H locs cells slots Q (F0 m pc ls (.int x :: rest)) := by
  subst hp
  exact lv_if_ge E.x E.b hdg ht (fun h => kf (Int32.not_lt.mpr h)) (fun h => kt (Int32.not_le.mp h))
theorem hp_if_gt (E : hp_E B D s0 p s m args meth c cc own nm nL ret) {x : Int32} {off : Int} {tgt : Nat} (hdg : decode cc pc = .ok (.ifCond .gt off, 3)) (hp : pc + 3 = pc') (ht : (pc : Int) + off = (tgt : Int)) (kt : x ≤ 0 → W p l e R s m args below meth c H locs cells slots Q (F0 m pc' ls rest)) (kf : ¬ x ≤ 0 → W p l e R s m args below meth c H locs cells slots Q (F0 m tgt ls rest)) : W p l e R s m args below meth c H locs cells slots Q (F0 m pc ls (.int x :: rest)) := by
  subst hp
  exact lv_if_gt E.x E.b hdg ht (fun h => kf (Int32.not_le.mpr h)) (fun h => kt (Int32.not_lt.mp h))
theorem hp_if_le (E : hp_E B D s0 p s m args meth c cc own nm nL ret) {x : Int32} {off : Int} {tgt : Nat} (hdg : decode cc pc = .ok (.ifCond .le off, 3)) (hp : pc + 3 = pc') (ht : (pc : Int) + off = (tgt : Int)) (kt : x ≤ 0 → W p l e R s m args below meth c H locs cells slots Q (F0 m tgt ls rest)) (kf : ¬ x ≤ 0 → W p l e R s m args below meth c H locs cells slots Q (F0 m pc' ls rest)) : W p l e R s m args below meth c H locs cells slots Q (F0 m pc ls (.int x :: rest)) := by
  subst hp
  exact lv_if_le E.x E.b hdg ht kt kf
theorem hp_acmp_eq (E : hp_E B D s0 p s m args meth c cc own nm nL ret) {x y : Nat} {off : Int} {tgt : Nat} (hdg : decode cc pc = .ok (.if_acmp .eq off, 3)) (hp : pc + 3 = pc') (ht : (pc : Int) + off = (tgt : Int)) (kt : x = y → W p l e R s m args below meth c H locs cells slots Q (F0 m tgt ls rest)) (kf : ¬ x = y → W p l e R s m args below meth c H locs cells slots Q (F0 m pc' ls rest)) : W p l e R s m args below meth c H locs cells slots Q (F0 m pc ls (hp_v B y :: hp_v B x :: rest)) := by
  subst hp
  rw [show hp_v B x = va_rf (hp_o B x) from hp_oe, show hp_v B y = va_rf (hp_o B y) from hp_oe]
  exact lv_acmp_eq E.x E.b hdg ht (fun h => kt (hp_oi.mp h)) (fun h => kf (fun q => h (hp_oi.mpr q)))
theorem hp_acmp_ne (E : hp_E B D s0 p s m args meth c cc own nm nL ret) {x y : Nat} {off : Int} {tgt : Nat} (hdg : decode cc pc = .ok (.if_acmp .ne off, 3)) (hp : pc + 3 = pc') (ht : (pc : Int) + off = (tgt : Int)) (kt : x = y → W p l e R s m args below meth c H locs cells slots Q (F0 m pc' ls rest)) (kf : ¬ x = y → W p l e R s m args below meth c H locs cells slots Q (F0 m tgt ls rest)) : W p l e R s m args below meth c H locs cells slots Q (F0 m pc ls (hp_v B y :: hp_v B x :: rest)) := by
  subst hp
  rw [show hp_v B x = va_rf (hp_o B x) from hp_oe, show hp_v B y = va_rf (hp_o B y) from hp_oe]
  exact lv_acmp_ne E.x E.b hdg ht (fun h => kf (fun q => h (hp_oi.mpr q))) (fun h => kt (hp_oi.mp h))
theorem hp_ifnull (E : hp_E B D s0 p s m args meth c cc own nm nL ret) {x : Nat} {off : Int} {tgt : Nat} (hdg : decode cc pc = .ok (.ifnull off, 3)) (hp : pc + 3 = pc') (ht : (pc : Int) + off = (tgt : Int)) (kt : x = 0 → W p l e R s m args below meth c H locs cells slots Q (F0 m tgt ls rest)) (kf : ¬ x = 0 → W p l e R s m args below meth c H locs cells slots Q (F0 m pc' ls rest)) : W p l e R s m args below meth c H locs cells slots Q (F0 m pc ls (hp_v B x :: rest)) := by
  subst hp
  by_cases hx : x = 0
  · subst hx
    exact lv_ifnullN E.x E.b hdg ht (kt rfl)
  · have kf := kf hx
    rw [hp_vp hx]
    exact lv_ifnull E.x E.b hdg kf
theorem hp_ifnonnull (E : hp_E B D s0 p s m args meth c cc own nm nL ret) {x : Nat} {off : Int} {tgt : Nat} (hdg : decode cc pc = .ok (.ifnonnull off, 3)) (hp : pc + 3 = pc') (ht : (pc : Int) + off = (tgt : Int)) (kt : x = 0 → W p l e R s m args below meth c H locs cells slots Q (F0 m pc' ls rest)) (kf : ¬ x = 0 → W p l e R s m args below meth c H locs cells slots Q (F0 m tgt ls rest)) : W p l e R s m args below meth c H locs cells slots Q (F0 m pc ls (hp_v B x :: rest)) := by
  subst hp
  by_cases hx : x = 0
  · subst hx
    exact lv_ifnonnullN E.x E.b hdg (kt rfl)
  · have kf := kf hx
    rw [hp_vp hx]
    exact lv_ifnonnull E.x E.b hdg ht kf
theorem hp_goto (E : hp_E B D s0 p s m args meth c cc own nm nL ret) {off : Int} {tgt : Nat} (hdg : decode cc pc = .ok (.goto off, 3)) (ht : (pc : Int) + off = (tgt : Int)) (kk : W p l e R s m args below meth c H locs cells slots Q (F0 m tgt ls rest)) : W p l e R s m args below meth c H locs cells slots Q (F0 m pc ls rest) := by
  exact lv_goto E.x E.b hdg ht kk
theorem hp_ck.kept {S' : hp_St} {H' : Heap} {n : Nat} (h : hp_ck B D S H n) (hC : st_C S' n = st_C S n) (hL : st_L S' n = st_L S n) (hI : ∀ j, st_I S' n j = st_I S n j) (hr : ∀ j, st_R S' n j = st_R S n j) (hJ : ∀ j, st_J S' n j = st_J S n j) (hq : H'[B + n]? = H[B + n]?) : hp_ck B D S' H' n := by
  unfold hp_ck at h ⊢
  rw [hC]
  by_cases h1 : st_C S n < 50
  · rw [if_pos h1] at h ⊢
    obtain ⟨r, a, b, d⟩ := h
    exact ⟨r, a, (b.kept hq).to (fun j _ => by unfold hp_f; rw [hI, hr]), fun h8 => by
      obtain ⟨cell, g, z⟩ := d h8
      exact ⟨cell, by rw [hq]; exact g, z⟩⟩
  · rw [if_neg h1] at h ⊢
    have eI : st_I S' n = st_I S n := funext hI
    have eR : st_R S' n = st_R S n := funext hr
    have eJ : st_J S' n = st_J S n := funext hJ
    rw [hq, hL, eI, eR, eJ]
    exact h
theorem hp_S.lt (hR : hp_S B D s0 S H locs) {n : Nat} (hn : st_C S n ≠ 0) : 0 < n ∧ n < st_Z S := ⟨(hR.1.2.2 n hn).1, (hR.1.2.2 n hn).2.1⟩
theorem hp_S.upd (hR : hp_S B D s0 S H locs) {n : Nat} {S' : hp_St} {H' : Heap} (hn : st_C S n ≠ 0) (hZ : st_Z S' = st_Z S) (hC : st_C S' = st_C S) (hL : st_L S' = st_L S) (ho : ∀ a, a ≠ n → (∀ j, st_I S' a j = st_I S a j) ∧ (∀ j, st_R S' a j = st_R S a j) ∧ ∀ j, st_J S' a j = st_J S a j) (hck : hp_ck B D S' H' n) (hz : H'.size = H.size) (hq : ∀ q, q ≠ B + n → H'[q]? = H[q]?) (i : Nat) : hp_S B D s0 S' H' (locs ++ [⟨B + n, i⟩]) := by
  have hn0 := hR.lt hn
  refine ⟨⟨by rw [hz, hR.1.1, hZ], by rw [hZ]; exact hR.1.2.1, fun a ha => ?_⟩, fun q hq1 => ?_, fun q hq1 => ?_⟩
  · rw [hC] at ha
    obtain ⟨h1, h2, h3⟩ := hR.1.2.2 a ha
    refine ⟨h1, by rw [hZ]; exact h2, ?_⟩
    by_cases hna : a = n
    · rw [hna]
      exact hck
    · obtain ⟨o1, o2, o3⟩ := ho a hna
      exact h3.kept (by rw [hC]) (by rw [hL]) o1 o2 o3 (hq _ (by omega))
  · rw [hq q (by omega)]
    exact hR.2.1 q hq1
  · rcases List.mem_append.mp hq1 with h | h
    · exact hR.2.2 q h
    · rw [List.mem_singleton.mp h]
      show B < B + n
      omega
/-- a fresh cell -/
theorem hp_S.new (hR : hp_S B D s0 S H locs) {S' : hp_St} {H' : Heap} (hZ : st_Z S' = st_Z S + 1) (ho : ∀ a, a ≠ st_Z S → st_C S' a = st_C S a ∧ st_L S' a = st_L S a ∧ (∀ j, st_I S' a j = st_I S a j) ∧ (∀ j, st_R S' a j = st_R S a j) ∧ ∀ j, st_J S' a j = st_J S a j) (hck : st_C S' (st_Z S) ≠ 0 → hp_ck B D S' H' (st_Z S)) (hz : H'.size = H.size + 1) (hq : ∀ q, q < H.size → H'[q]? = H[q]?) : hp_S B D s0 S' H' locs := by
  have hs := hR.1.1
  have hZ0 := hR.1.2.1
  refine ⟨⟨by rw [hz, hs, hZ]; omega, by omega, fun a ha => ?_⟩, fun q hq1 => ?_, hR.2.2⟩
  · by_cases hna : a = st_Z S
    · subst hna
      exact ⟨hZ0, by omega, hck ha⟩
    · obtain ⟨o0, oL, o1, o2, o3⟩ := ho a hna
      rw [o0] at ha
      obtain ⟨h1, h2, h3⟩ := hR.1.2.2 a ha
      exact ⟨h1, by omega, h3.kept o0 oL o1 o2 o3 (hq _ (by omega))⟩
  · rw [hq q (by omega)]
    exact hR.2.1 q hq1
theorem hp_S.ob (hR : hp_S B D s0 S H locs) {n ci : Nat} {r : vw_C} (hc : st_C S n = ci + 1) (hci : hp_cl[ci]? = some r) : n ≠ 0 ∧ t_OB (B + n) (D.1 ci) r.2.2 (D.2 ci) H (fun j => hp_f B S n j (hp_ir (ci + 1) j)) := by
  have hl : ci < 18 := (List.getElem?_eq_some_iff.mp hci).1
  obtain ⟨h1, h2, h3⟩ := hR.1.2.2 n (by omega)
  refine ⟨by omega, ?_⟩
  unfold hp_ck at h3
  rw [hc, if_pos (by omega)] at h3
  obtain ⟨r', a, b, -⟩ := h3
  rw [Nat.add_sub_cancel] at a b
  rw [hci] at a
  cases a
  exact b
theorem hp_S.big (hR : hp_S B D s0 S H locs) {n : Nat} (hc : st_C S n = 8) : hp_big D H (B + n) := by
  obtain ⟨h1, h2, h3⟩ := hR.1.2.2 n (by omega)
  unfold hp_ck at h3
  rw [if_pos (by omega)] at h3
  obtain ⟨r', a, b, d⟩ := h3
  exact d hc
theorem hp_S.recv (hR : hp_S B D s0 S H locs) (hK : va_K D hp_cl (hp_tys D) s) {n ci : Nat} {r : vw_C} (hc : st_C S n = ci + 1) (hci : hp_cl[ci]? = some r) : ∃ cell : Cell, H[B + n]? = some cell ∧ cell.vm.isStatics = false ∧ s.vm.findClass r.1 = some cell.cls := by
  obtain ⟨-, cell, g1, g2, g3, -⟩ := hR.ob hc hci
  exact ⟨cell, g1, by rw [g3]; rfl, by rw [g2]; exact (hK.1 ci r hci).2.1⟩
theorem hp_get (E : hp_E B D s0 p s m args meth c cc own nm nL ret) (hR : hp_S B D s0 S H locs) {C ref : String} {T : u_T} {N ci index n : Nat} (hin : ∀ w ∈ u_ws C T N, w ∈ lw_all) (hc : st_C S n = ci + 1) (hci : hp_cl[ci]? = some (C, T, N)) (k : Nat) (hk : k < N) (hlink : (Cond.fieldLink own index ref (T k).2.1 (T k).2.2.1).before args s = true ∨ ∃ host, (Cond.fieldLinkNest own index ref (T k).2.1 (T k).2.2.1 host).before args s = true) (hsame : ∀ x, s.fieldFound? (T k).1 (T k).2.1 (T k).2.2.1 = some x → s.fieldFound? ref (T k).2.1 (T k).2.2.1 = some x) (hdg : decode cc pc = .ok (.getfield index, 3)) (hp : pc + 3 = pc')
    (kk : W p l e R s m args below meth c H locs cells slots Q (F0 m pc' ls (hp_f B S n k (hp_ir (ci + 1) k) :: rest))) : W p l e R s m args below meth c H locs cells slots Q (F0 m pc ls (hp_v B n :: rest)) := by
  subst hp
  obtain ⟨hn, cell, q1, q2, q3, q4⟩ := hR.ob hc hci
  rw [hp_vp hn]
  obtain ⟨hS, hfc, kC, hkC, hkind⟩ := E.K.1 ci _ hci
  obtain ⟨cf, kf, fi, f, hi, hsl⟩ := hS k hk
  have hst := (u_facts hfc hkC (u_lays E.all hin hk) hi).1
  rcases hlink with hlink | ⟨host, hlink⟩
  · exact W.getf E.x E.b E.o hlink (hsame _ hi) hst q1 (by rw [q3]; exact fun h => by cases h) (by rw [hsl]; exact q4 k hk) rfl rfl hdg kk
  · exact va_Wgetf E.x E.b E.o hlink (hsame _ hi) hst q1 (by rw [q3]; exact fun h => by cases h) (by rw [hsl]; exact q4 k hk) rfl rfl hdg kk
theorem hp_getI (E : hp_E B D s0 p s m args meth c cc own nm nL ret) (hR : hp_S B D s0 S H locs) {C ref : String} {T : u_T} {N ci index n : Nat} (hin : ∀ w ∈ u_ws C T N, w ∈ lw_all) (hc : st_C S n = ci + 1) (hci : hp_cl[ci]? = some (C, T, N)) (k : Nat) (hk : k < N) (hir : hp_ir (ci + 1) k = false) (hlink : Cond.fieldLink own index ref (T k).2.1 (T k).2.2.1 ∈ lw_all) (hsame : ∀ x, s.fieldFound? (T k).1 (T k).2.1 (T k).2.2.1 = some x → s.fieldFound? ref (T k).2.1 (T k).2.2.1 = some x) (hdg : decode cc pc = .ok (.getfield index, 3)) (hp : pc + 3 = pc')
    (kk : W p l e R s m args below meth c H locs cells slots Q (F0 m pc' ls (.int (st_I S n k) :: rest))) : W p l e R s m args below meth c H locs cells slots Q (F0 m pc ls (hp_v B n :: rest)) :=
  hp_get E hR hin hc hci k hk (Or.inl (E.w hlink)) hsame hdg hp (by rw [hir]; exact kk)
theorem hp_getR (E : hp_E B D s0 p s m args meth c cc own nm nL ret) (hR : hp_S B D s0 S H locs) {C ref : String} {T : u_T} {N ci index n : Nat} (hin : ∀ w ∈ u_ws C T N, w ∈ lw_all) (hc : st_C S n = ci + 1) (hci : hp_cl[ci]? = some (C, T, N)) (k : Nat) (hk : k < N) (hir : hp_ir (ci + 1) k = true) (hlink : Cond.fieldLink own index ref (T k).2.1 (T k).2.2.1 ∈ lw_all) (hsame : ∀ x, s.fieldFound? (T k).1 (T k).2.1 (T k).2.2.1 = some x → s.fieldFound? ref (T k).2.1 (T k).2.2.1 = some x) (hdg : decode cc pc = .ok (.getfield index, 3)) (hp : pc + 3 = pc')
    (kk : W p l e R s m args below meth c H locs cells slots Q (F0 m pc' ls (hp_v B (st_R S n k) :: rest))) : W p l e R s m args below meth c H locs cells slots Q (F0 m pc ls (hp_v B n :: rest)) :=
  hp_get E hR hin hc hci k hk (Or.inl (E.w hlink)) hsame hdg hp (by rw [hir]; exact kk)
/-- .. a nest mate's -/
theorem hp_getIN (E : hp_E B D s0 p s m args meth c cc own nm nL ret) (hR : hp_S B D s0 S H locs) {C ref host : String} {T : u_T} {N ci index n : Nat} (hin : ∀ w ∈ u_ws C T N, w ∈ lw_all) (hc : st_C S n = ci + 1) (hci : hp_cl[ci]? = some (C, T, N)) (k : Nat) (hk : k < N) (hir : hp_ir (ci + 1) k = false) (hlink : Cond.fieldLinkNest own index ref (T k).2.1 (T k).2.2.1 host ∈ lw_tbl) (hsame : ∀ x, s.fieldFound? (T k).1 (T k).2.1 (T k).2.2.1 = some x → s.fieldFound? ref (T k).2.1 (T k).2.2.1 = some x) (hdg : decode cc pc = .ok (.getfield index, 3)) (hp : pc + 3 = pc')
    (kk : W p l e R s m args below meth c H locs cells slots Q (F0 m pc' ls (.int (st_I S n k) :: rest))) : W p l e R s m args below meth c H locs cells slots Q (F0 m pc ls (hp_v B n :: rest)) :=
  hp_get E hR hin hc hci k hk (Or.inr ⟨_, E.n hlink rfl⟩) hsame hdg hp (by rw [hir]; exact kk)
theorem hp_getRN (E : hp_E B D s0 p s m args meth c cc own nm nL ret) (hR : hp_S B D s0 S H locs) {C ref host : String} {T : u_T} {N ci index n : Nat} (hin : ∀ w ∈ u_ws C T N, w ∈ lw_all) (hc : st_C S n = ci + 1) (hci : hp_cl[ci]? = some (C, T, N)) (k : Nat) (hk : k < N) (hir : hp_ir (ci + 1) k = true) (hlink : Cond.fieldLinkNest own index ref (T k).2.1 (T k).2.2.1 host ∈ lw_tbl) (hsame : ∀ x, s.fieldFound? (T k).1 (T k).2.1 (T k).2.2.1 = some x → s.fieldFound? ref (T k).2.1 (T k).2.2.1 = some x) (hdg : decode cc pc = .ok (.getfield index, 3)) (hp : pc + 3 = pc')
    (kk : W p l e R s m args below meth c H locs cells slots Q (F0 m pc' ls (hp_v B (st_R S n k) :: rest))) : W p l e R s m args below meth c H locs cells slots Q (F0 m pc ls (hp_v B n :: rest)) :=
  hp_get E hR hin hc hci k hk (Or.inr ⟨_, E.n hlink rfl⟩) hsame hdg hp (by rw [hir]; exact kk)
/-- what is stored in a field: the new state -/
def hp_fs (S : hp_St) (n k : Nat) (r : Bool) (vi : Int32) (vr : Nat) : hp_St := if r = true then st_pR S n k vr else st_pI S n k vi
theorem hp_put (E : hp_E B D s0 p s m args meth c cc own nm nL ret) (hR : hp_S B D s0 S H locs) {C ref : String} {T : u_T} {N ci index n : Nat} (hin : ∀ w ∈ u_ws C T N, w ∈ lw_all) (tk : Nat → FieldType) (hty : ∀ k, k < N → parseFieldDescriptor (T k).2.2.1 = some (tk k)) (hnm : ∀ a, a < N → ∀ b, b < N → a ≠ b → (T a).2.1 ≠ (T b).2.1) (hc : st_C S n = ci + 1) (hci : hp_cl[ci]? = some (C, T, N)) (k : Nat) (hk : k < N) {vi : Int32} {vr : Nat} (hlink : (Cond.fieldLink own index ref (T k).2.1 (T k).2.2.1).before args s = true ∨ ((T k).2.2.2 = false ∧ ∃ host, (Cond.fieldLinkNest own index ref (T k).2.1 (T k).2.2.1 host).before args s = true)) (hsame : ∀ x, s.fieldFound? (T k).1 (T k).2.1 (T k).2.2.1 = some x → s.fieldFound? ref (T k).2.1 (T k).2.2.1 = some x) (hfin : (T k).2.2.2 = false ∨ (meth.name = "<init>" ∧ (T k).1 = own)) {v : Value} (hv : v = if hp_ir (ci + 1) k = true then hp_v B vr else .int vi) (hn : narrow (tk k) v = v) (hfit : fits (tk k) v = true) (hdg : decode cc pc = .ok (.putfield index, 3)) (hp : pc + 3 = pc')
    (kk : ∀ (H1 : Heap) (locs1 : List Loc), hp_S B D s0 (hp_fs S n k (hp_ir (ci + 1) k) vi vr) H1 locs1 → W p l e R s m args below meth c H1 locs1 cells slots Q (F0 m pc' ls rest)) : W p l e R s m args below meth c H locs cells slots Q (F0 m pc ls (v :: hp_v B n :: rest)) := by
  subst hp
  have hap : ∀ x y, x < N → y < N → x ≠ y → (D.2 ci) x ≠ (D.2 ci) y := va_apart (own := own) E.all hin tk hty hnm E.K hci
  obtain ⟨hn0, cell, q1, q2, q3, q4⟩ := hR.ob hc hci
  rw [hp_vp hn0]
  obtain ⟨hS, hfc, kC, hkC, hkind⟩ := E.K.1 ci _ hci
  obtain ⟨cf, kf, fi, f, hi, hsl⟩ := hS k hk
  have hlay := u_lays E.all hin hk
  have hlay1 := E.all _ (hin _ (u_in_lay hk))
  unfold u_lay at hlay1
  have hst := (u_facts hfc hkC hlay hi).1
  have hlt : f.slot < cell.slots.size := by rw [hsl]; exact k2_hasslot (q4 k hk)
  have go : ∀ H' : Heap, H'[B + n]? = some (cell.setSlot f.slot v) → H'.size = H.size → (∀ q, q ≠ B + n → H'[q]? = H[q]?) → W p l e R s m args below meth c H' (locs ++ [⟨B + n, f.slot⟩]) cells slots Q { F0 m pc ls (v :: .ref (B + n) :: rest) with pc := (F0 m pc ls (v :: .ref (B + n) :: rest)).pc + 3, stack := rest } := by
    intro H' e1 e2 e3
    refine kk H' _ (hR.upd (n := n) (by omega) ?_ ?_ ?_ ?_ ?_ e2 e3 _)
    · unfold hp_fs; split <;> rfl
    · unfold hp_fs; split <;> rfl
    · unfold hp_fs; split <;> rfl
    · intro a ha
      unfold hp_fs
      split
      · exact ⟨fun _ => rfl, fun j => by simp [st_pR_e, ha], fun _ => rfl⟩
      · exact ⟨fun j => by simp [st_pI_e, ha], fun _ => rfl, fun _ => rfl⟩
    · have hC' : st_C (hp_fs S n k (hp_ir (ci + 1) k) vi vr) n = ci + 1 := by
        rw [← hc]
        unfold hp_fs; split <;> rfl
      have hl : ci < 18 := (List.getElem?_eq_some_iff.mp hci).1
      unfold hp_ck
      rw [hC', if_pos (by omega), Nat.add_sub_cancel]
      have hbig : ci + 1 = 8 → hp_big D H' (B + n) := by
        intro h8
        obtain ⟨c0, g0, z0⟩ := hR.big (n := n) (by omega)
        cases g0.symm.trans q1
        exact ⟨_, e1, fun j hj => by
          have := z0 j hj
          simpa [Cell.setSlot] using this⟩
      refine ⟨_, hci, ?_, hbig⟩
      rw [hsl] at e1
      refine t_OB.to (V := updV (fun j => hp_f B S n j (hp_ir (ci + 1) j)) k v) ⟨_, e1, q2, q3, t_set q4 hap hk v⟩ (fun j _ => ?_)
      unfold updV
      by_cases hj : j = k
      · subst hj
        rw [if_pos rfl, hv]
        unfold hp_f hp_fs
        by_cases hr : hp_ir (ci + 1) j = true
        · simp [hr, st_pR_e]
        · simp [hr, st_pI_e]
      · rw [if_neg hj]
        unfold hp_f hp_fs
        by_cases hr : hp_ir (ci + 1) k = true
        · rw [if_pos hr]
          simp only [st_pR_e, hj, and_false, if_false]
        · rw [if_neg hr]
          simp only [st_pI_e, hj, and_false, if_false]
  rcases hfin with hf | ⟨hinit, hdecl⟩
  · rw [if_neg (by rw [hf]; decide)] at hlay1
    have h6 := u_store hfc hkC hkind hlay1 hi (hty k hk) hn hfit
    rcases hlink with hlink | ⟨-, host, hlink⟩
    · exact W.putK E.x E.b (f := f) ⟨E.o, hlink, ⟨_, _, _, hsame _ hi⟩, hst⟩ (by rw [q2]; exact h6) q1 q3 hlt rfl rfl hdg go
    · exact va_WputK E.x E.b (f := f) E.o hlink (hsame _ hi) hst (by rw [q2]; exact h6) q1 q3 hlt rfl rfl hdg go
  · by_cases hf : (T k).2.2.2 = true
    · rw [if_pos hf] at hlay1
      have hcf : m.cls = cf := by
        obtain ⟨_, _, c', _, _, _, -, -, hf', -, -, -, hown2, -⟩ := Cond.laysFinal_spec hlay1
        have e1 : c' = cf := by have := hi.symm.trans hf'; simp at this; exact this.1.symm
        rw [hdecl] at hown2
        rw [← e1]; exact Option.some.inj (E.o.symm.trans hown2)
      have h6 := u_fits hfc hkC hkind (Or.inr hlay1) hi (hty k hk) hn hfit
      rcases hlink with hlink | ⟨hf2, -⟩
      · exact W.putFinK E.x E.b E.o hlink (hsame _ hi) hst hcf hinit (by rw [q2]; exact h6) q1 q3 hlt rfl rfl hdg go
      · rw [hf] at hf2
        cases hf2
    · rw [if_neg hf] at hlay1
      have h6 := u_store hfc hkC hkind hlay1 hi (hty k hk) hn hfit
      rcases hlink with hlink | ⟨-, host, hlink⟩
      · exact W.putK E.x E.b (f := f) ⟨E.o, hlink, ⟨_, _, _, hsame _ hi⟩, hst⟩ (by rw [q2]; exact h6) q1 q3 hlt rfl rfl hdg go
      · exact va_WputK E.x E.b (f := f) E.o hlink (hsame _ hi) hst (by rw [q2]; exact h6) q1 q3 hlt rfl rfl hdg go
theorem hp_nI {ty : FieldType} {v : Int32} (h : ty = .int ∨ (ty = .boolean ∧ (v = 0 ∨ v = 1))) : narrow ty (.int v) = .int v ∧ fits ty (.int v) = true := by
  rcases h with rfl | ⟨rfl, rfl | rfl⟩ <;> exact ⟨rfl, rfl⟩
theorem hp_nR {ty : FieldType} {n : Nat} (h : ty.isReference = true) : narrow ty (hp_v B n) = hp_v B n ∧ fits ty (hp_v B n) = true := by
  unfold hp_v
  cases ty with
  | object C => split <;> exact ⟨rfl, rfl⟩
  | array t => split <;> exact ⟨rfl, rfl⟩
  | _ => cases h
/-- putfield, an int or a boolean -/
theorem hp_putI (E : hp_E B D s0 p s m args meth c cc own nm nL ret) (hR : hp_S B D s0 S H locs) {C ref : String} {T : u_T} {N ci index n : Nat} (hin : ∀ w ∈ u_ws C T N, w ∈ lw_all) (tk : Nat → FieldType) (hty : ∀ k, k < N → parseFieldDescriptor (T k).2.2.1 = some (tk k)) (hnm : ∀ a, a < N → ∀ b, b < N → a ≠ b → (T a).2.1 ≠ (T b).2.1) (hc : st_C S n = ci + 1) (hci : hp_cl[ci]? = some (C, T, N)) (k : Nat) (hk : k < N) (hir : hp_ir (ci + 1) k = false) {vi : Int32} (hlink : Cond.fieldLink own index ref (T k).2.1 (T k).2.2.1 ∈ lw_all) (hsame : ∀ x, s.fieldFound? (T k).1 (T k).2.1 (T k).2.2.1 = some x → s.fieldFound? ref (T k).2.1 (T k).2.2.1 = some x) (hfin : (T k).2.2.2 = false ∨ (meth.name = "<init>" ∧ (T k).1 = own)) (hv : tk k = .int ∨ (tk k = .boolean ∧ (vi = 0 ∨ vi = 1))) (hdg : decode cc pc = .ok (.putfield index, 3)) (hp : pc + 3 = pc')
    (kk : ∀ (H1 : Heap) (locs1 : List Loc), hp_S B D s0 (st_pI S n k vi) H1 locs1 → W p l e R s m args below meth c H1 locs1 cells slots Q (F0 m pc' ls rest)) : W p l e R s m args below meth c H locs cells slots Q (F0 m pc ls (.int vi :: hp_v B n :: rest)) :=
  hp_put E hR hin tk hty hnm hc hci k hk (vr := 0) (Or.inl (E.w hlink)) hsame hfin (by rw [hir]; rfl) (hp_nI hv).1 (hp_nI hv).2 hdg hp (by rw [hir]; exact kk)
theorem hp_putIN (E : hp_E B D s0 p s m args meth c cc own nm nL ret) (hR : hp_S B D s0 S H locs) {C ref host : String} {T : u_T} {N ci index n : Nat} (hin : ∀ w ∈ u_ws C T N, w ∈ lw_all) (tk : Nat → FieldType) (hty : ∀ k, k < N → parseFieldDescriptor (T k).2.2.1 = some (tk k)) (hnm : ∀ a, a < N → ∀ b, b < N → a ≠ b → (T a).2.1 ≠ (T b).2.1) (hc : st_C S n = ci + 1) (hci : hp_cl[ci]? = some (C, T, N)) (k : Nat) (hk : k < N) (hir : hp_ir (ci + 1) k = false) {vi : Int32} (hlink : Cond.fieldLinkNest own index ref (T k).2.1 (T k).2.2.1 host ∈ lw_tbl) (hsame : ∀ x, s.fieldFound? (T k).1 (T k).2.1 (T k).2.2.1 = some x → s.fieldFound? ref (T k).2.1 (T k).2.2.1 = some x) (hfin : (T k).2.2.2 = false) (hv : tk k = .int ∨ (tk k = .boolean ∧ (vi = 0 ∨ vi = 1))) (hdg : decode cc pc = .ok (.putfield index, 3)) (hp : pc + 3 = pc')
    (kk : ∀ (H1 : Heap) (locs1 : List Loc), hp_S B D s0 (st_pI S n k vi) H1 locs1 → W p l e R s m args below meth c H1 locs1 cells slots Q (F0 m pc' ls rest)) : W p l e R s m args below meth c H locs cells slots Q (F0 m pc ls (.int vi :: hp_v B n :: rest)) :=
  hp_put E hR hin tk hty hnm hc hci k hk (vr := 0) (Or.inr ⟨hfin, _, E.n hlink rfl⟩) hsame (Or.inl hfin) (by rw [hir]; rfl) (hp_nI hv).1 (hp_nI hv).2 hdg hp (by rw [hir]; exact kk)
theorem hp_putR (E : hp_E B D s0 p s m args meth c cc own nm nL ret) (hR : hp_S B D s0 S H locs) {C ref : String} {T : u_T} {N ci index n : Nat} (hin : ∀ w ∈ u_ws C T N, w ∈ lw_all) (tk : Nat → FieldType) (hty : ∀ k, k < N → parseFieldDescriptor (T k).2.2.1 = some (tk k)) (hnm : ∀ a, a < N → ∀ b, b < N → a ≠ b → (T a).2.1 ≠ (T b).2.1) (hc : st_C S n = ci + 1) (hci : hp_cl[ci]? = some (C, T, N)) (k : Nat) (hk : k < N) (hir : hp_ir (ci + 1) k = true) {vr : Nat} (hlink : Cond.fieldLink own index ref (T k).2.1 (T k).2.2.1 ∈ lw_all) (hsame : ∀ x, s.fieldFound? (T k).1 (T k).2.1 (T k).2.2.1 = some x → s.fieldFound? ref (T k).2.1 (T k).2.2.1 = some x) (hfin : (T k).2.2.2 = false ∨ (meth.name = "<init>" ∧ (T k).1 = own)) (hv : (tk k).isReference = true) (hdg : decode cc pc = .ok (.putfield index, 3)) (hp : pc + 3 = pc')
    (kk : ∀ (H1 : Heap) (locs1 : List Loc), hp_S B D s0 (st_pR S n k vr) H1 locs1 → W p l e R s m args below meth c H1 locs1 cells slots Q (F0 m pc' ls rest)) : W p l e R s m args below meth c H locs cells slots Q (F0 m pc ls (hp_v B vr :: hp_v B n :: rest)) :=
  hp_put E hR hin tk hty hnm hc hci k hk (vi := 0) (Or.inl (E.w hlink)) hsame hfin (by rw [hir]; rfl) (hp_nR hv).1 (hp_nR hv).2 hdg hp (by rw [hir]; exact kk)
end HPR
