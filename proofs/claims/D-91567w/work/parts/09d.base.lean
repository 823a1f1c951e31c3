/-! BASE 7: methods with handlers -/
set_option maxRecDepth 100000
def hp_MW (l : Launch) (B : Nat) (D : va_G) (s0 : State) (y : MethodName) (cc : ByteArray) (nL : Nat) (ret : Option FieldType) (hh : List (Nat × Nat × Nat × Nat)) (fr lo mc ms : Nat) (vals : List Value) (S : hp_St) (Qc : Array Value → State → Outcome → State → Prop) : Prop :=
  Met l y [Cond.codeWith y cc nL ret hh] ({ frames := fr, cells := mc, slots := ms, locals := lo }) (va_Pc vals (hp_W B D s0 S)) Qc mc ms (fun q => B < q)
section HPWH
variable {p : Program} {l : Launch} {e : Env} {R : Room} {s : State} {m : MethodId} {args : Array Value} {below : List Frame} {meth : Method} {c : Code} {H : Heap} {locs : List Loc} {cells slots : Nat} {Q : State → Prop}
variable {B : Nat} {D : va_G} {s0 : State} {S : hp_St} {cc : ByteArray} {own nm : String} {nL : Nat} {ret : Option FieldType} {pc pc' : Nat} {ls : Array Slot} {rest : List Value} {lv : List (Nat × Value)}
theorem hp_startW {b0 : Nat} (G : hp_G l B D s0 b0) {y : MethodName} {own nm : String} {hh : List (Nat × Nat × Nat × Nat)} {fr lo mc ms : Nat} {vals : List Value} {Qc : Array Value → State → Outcome → State → Prop} (hy : plainName y.cls = true) (ho : y.cls = own) (hnm : y.name = nm) (hlen : (lg_sl vals).length ≤ nL) (hlv : lv_args 0 vals = lv)
    (body : ∀ (p : Program) (e : Env) (s : State) (m : MethodId) (args : Array Value) (below : List Frame) (meth : Method) (c : Code), hp_E B D s0 p s m args meth c cc own nm nL ret → c.exceptionTable.toList = tableOf hh → ∀ ls : Array Slot, lv_has ls nL lv → hp_S B D s0 S s.heap [] → W p l e ({ frames := fr, cells := mc, slots := ms, locals := lo }) s m args below meth c s.heap [] 0 0 (MQ below Qc args s mc ms (fun q => B < q)) (F0 m 0 ls [])) : hp_MW l B D s0 y cc nL ret hh fr lo mc ms vals S Qc := by
  refine va_MetW (cc := cc) (maxL := nL) (ret := ret) (hh := hh) hy rfl ?_
  intro p e s m args below meth c s₁ Bd hml hv
  obtain ⟨rfl, hW, hlow, hH⟩ := hv
  have hown : s.vm.findClass y.cls = some m.cls := findClass_of_methodNamed Bd.named
  have hcw := atoms_spec (ws := [Cond.codeWith y cc nL ret hh]) Bd.pre _ List.mem_cons_self
  have hE : hp_E B D s0 p s m vals.toArray meth c cc own nm nL ret := ⟨Bd.exec, Bd.bytes, hml, Bd.returns, Bd.notSynchronized, by rw [← ho]; exact hown, by rw [← hnm]; exact (name_of_methodNamed Bd.named Bd.method).1, fun w h hr => hp_ride hW hr (G.2.1 w h), va_K.moved hW.alike G.2.2.1, hW⟩
  have hl := lv_entry vals (n := nL) hlen
  rw [hlv] at hl
  rw [lg_entry_eq]
  exact body p e s m vals.toArray below meth c hE (vx_table (p := p) (x := y) Bd hcw) _ hl ⟨hH, hlow, fun q hq => by cases hq⟩
/-- a call answering a reference, whose Fault this method's first row catches -/
theorem hp_faC {Q1 : Nat → hp_St → Prop} {X1 : Nat → hp_St → Prop} {a : Array Value} {mc ms : Nat} {st0 : List Value} (E : hp_E B D s0 p s m args meth c cc own nm nL ret) (hr : vx_Run p l e R s m args below meth c H locs cells slots mc ms (F0 m pc ls st0) rest (hp_Qa B D s0 Q1 a) (hp_XC B D s0 X1) (fun q => B < q)) (hR : hp_S B D s0 S H locs) {x : ExceptionTableEntry} {suf : List ExceptionTableEntry} (htab : c.exceptionTable.toList = x :: suf) (hcov : covers x pc = true) (h0 : x.catchType ≠ 0) (q1 : Cond.classLink own x.catchType RX8 ∈ lw_all) (q2 : Cond.castable RX8 RX8 ∈ lw_tbl) (hp : pc + 3 = pc')
    (kx : ∀ (n : Nat) (S1 : hp_St) (H1 : Heap) (locs1 : List Loc), st_C S1 n = 8 → X1 n S1 → hp_S B D s0 S1 H1 locs1 → W p l e R s m args below meth c H1 locs1 (cells + mc) (slots + ms) Q (F0 m x.handlerPc ls [hp_v B n]))
    (kk : ∀ (r : Nat) (S1 : hp_St) (H1 : Heap) (locs1 : List Loc), Q1 r S1 → hp_S B D s0 S1 H1 locs1 → W p l e R s m args below meth c H1 locs1 (cells + (mc - 1)) (slots + (ms - 8)) Q (F0 m pc' ls (hp_v B r :: rest))) : W p l e R s m args below meth c H locs cells slots Q (F0 m pc ls st0) := by
  subst hp
  intro T hT X
  rcases hr T hT X with ⟨v, st₀, t, T', L, h0, X', hL, e1, e2, ⟨r, S1, hv, hq, -, hlow, hH⟩, st⟩ | ⟨q, st₀, t, T', L, E', ce, h0', X', hL, e1, e2, ⟨hE, n, S1, hq, hcn, hX1, hW⟩, hce, hcv, hcl, st⟩
  · cases hv
    obtain ⟨t2, a1, b1⟩ := kk r S1 T'.heap (locs ++ L) hq ⟨by rw [e1]; exact hH, by rw [e1]; exact hlow, fun q hq => (List.mem_append.mp hq).elim (hR.2.2 q) (hL q)⟩ T' rfl X'
    exact ⟨t2, st t2 a1, b1⟩
  · have hR1 : hp_S B D s0 S1 T'.heap (locs ++ L) := ⟨by rw [e1]; exact hW.2.2, by rw [e1]; exact hW.2.1, fun q hq => (List.mem_append.mp hq).elim (hR.2.2 q) (hL q)⟩
    have hn := (hR1.ob (ci := 7) hcn rfl).1
    subst hE
    subst hq
    have hk := kx n S1 T'.heap (locs ++ L) hcn hX1 hR1
    rw [hp_vp hn] at hk
    have hvx : vx_W p l e R s m args below meth c T'.heap (locs ++ L) (cells + mc) (slots + ms) Q (F0 m pc ls rest) (B + n) :=
      vx_catch E.o [] x suf htab (fun z hz => by cases hz) hcov h0 (E.w q1) (E.n q2 rfl) (by rw [e1]; exact hce) hcv hcl hk
    obtain ⟨t2, a1, b1⟩ := hvx T' rfl X'
    exact ⟨t2, st.trans a1, b1⟩
/-- invokevirtual of a method with handlers that doesn't throw -/
theorem hp_rVW {y : MethodName} {bytes : ByteArray} {maxL fr lo mc ms index : Nat} {ret1 : Option FieldType} {hh : List (Nat × Nat × Nat × Nat)} {As st0 : List Value} {Qc : Array Value → State → Outcome → State → Prop} (E : hp_E B D s0 p s m args meth c cc own nm nL ret) (hR : hp_S B D s0 S H locs) (hl : lv_has ls nL lv) {n ci : Nat} {r : vw_C} (hM : hp_MW l B D s0 y bytes maxL ret1 hh fr lo mc ms (hp_v B n :: As) S Qc) (hc : st_C S n = ci + 1) (hci : hp_cl[ci]? = some r) (hC : r.1 = y.cls) (q1 : Cond.methodLink own index y ∈ lw_all) (q2 : Cond.instanceMethod y ∈ lw_all) (q3 : Cond.selects y.cls y y ∈ lw_all) (q4 : Cond.initialized y.cls ∈ lw_all) (q5 : Cond.codeWith y bytes maxL ret1 hh ∈ lw_all) (hnf : hp_nf y As.length = true) (hroom : fr + 1 ≤ R.frames ∧ 8 + (maxL + 11) + lo ≤ R.locals) (hst : st0 = As.reverse ++ hp_v B n :: rest) (hsz : rest.length ≤ 4) (hdg : decode cc pc = .ok (.invokevirtual index, 3)) (hf : cells + mc ≤ R.cells ∧ slots + ms ≤ R.slots) :
    va_Run p l e R s m args below meth c H locs cells slots mc ms (F0 m pc ls st0) rest (Qc (Value.ref (B + n) :: As).toArray) (fun q => B < q) := by
  obtain ⟨hn, -⟩ := hR.ob hc hci
  have hr := hR.recv E.K hc hci
  rw [hC] at hr
  obtain ⟨n1, n2, n3⟩ := hp_nf_spec hnf
  unfold hp_MW at hM
  rw [hp_vp hn] at hM hst
  exact vx_runVW (As := As) (rest := rest) (C := y.cls) ⟨E.x, E.b, E.ml, E.o, E.all⟩ hM ⟨⟨rfl, rfl, hroom.1, hroom.2, fun w hw => by rw [List.mem_singleton.mp hw]; exact hp_ws (E.w q5) (List.mem_filter.mp q5).2, List.mem_singleton.mpr rfl⟩, E.w q5, E.w q4, ⟨n1, n2⟩, n3, E.w q1, E.w q2, E.w q3⟩ ⟨hp_blind, hr, fun U hU hW => ⟨rfl, hR.W E hU hW⟩⟩ rfl rfl hl.1 hst (hp_room hsz) hdg hf
end HPWH
