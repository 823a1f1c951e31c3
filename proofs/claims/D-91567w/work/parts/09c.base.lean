/-! BASE 6: methods that return or throw a Fault -/
set_option maxRecDepth 100000
/-- what has been thrown: a Fault, its name, the state behind -/
def hp_XC (B : Nat) (D : va_G) (s0 : State) (X : Nat → hp_St → Prop) : String → Nat → State → State → Prop := fun E q _ t => E = RX8 ∧ ∃ (n : Nat) (S' : hp_St), q = B + n ∧ st_C S' n = 8 ∧ X n S' ∧ hp_W B D s0 S' t
def hp_MX (l : Launch) (B : Nat) (D : va_G) (s0 : State) (y : MethodName) (cc : ByteArray) (nL : Nat) (ret : Option FieldType) (fr lo mc ms : Nat) (vals : List Value) (S : hp_St) (Qc : Array Value → State → Outcome → State → Prop) (X : Nat → hp_St → Prop) : Prop :=
  vx_Met l y [Cond.code y cc nL ret] ({ frames := fr, cells := mc, slots := ms, locals := lo }) (va_Pc vals (hp_W B D s0 S)) Qc (hp_XC B D s0 X) mc ms (fun q => B < q)
section HPXC
variable {p : Program} {l : Launch} {e : Env} {R : Room} {s : State} {m : MethodId} {args : Array Value} {below : List Frame} {meth : Method} {c : Code} {H : Heap} {locs : List Loc} {cells slots : Nat} {Q : State → Prop}
variable {B : Nat} {D : va_G} {s0 : State} {S : hp_St} {cc : ByteArray} {own nm : String} {nL : Nat} {ret : Option FieldType} {pc pc' : Nat} {ls : Array Slot} {rest : List Value} {lv : List (Nat × Value)}
theorem hp_startX {b0 : Nat} (G : hp_G l B D s0 b0) {y : MethodName} {own nm : String} {fr lo mc ms : Nat} {vals : List Value} {Qc : Array Value → State → Outcome → State → Prop} {X : Nat → hp_St → Prop} (hy : plainName y.cls = true) (ho : y.cls = own) (hnm : y.name = nm) (hlen : (lg_sl vals).length ≤ nL) (hlv : lv_args 0 vals = lv)
    (body : ∀ (p : Program) (e : Env) (s : State) (m : MethodId) (args : Array Value) (below : List Frame) (meth : Method) (c : Code), hp_E B D s0 p s m args meth c cc own nm nL ret → (∀ x ∈ c.exceptionTable.toList, False) → ∀ ls : Array Slot, lv_has ls nL lv → hp_S B D s0 S s.heap [] → W p l e ({ frames := fr, cells := mc, slots := ms, locals := lo }) s m args below meth c s.heap [] 0 0 (vx_MQ below Qc (hp_XC B D s0 X) args s mc ms (fun q => B < q)) (F0 m 0 ls [])) : hp_MX l B D s0 y cc nL ret fr lo mc ms vals S Qc X := by
  refine vx_ofW (cc := cc) (maxL := nL) (ret := ret) hy rfl ?_
  intro p e s m args below meth c s₁ Bd hml hex hv
  obtain ⟨rfl, hW, hlow, hH⟩ := hv
  have hown : s.vm.findClass y.cls = some m.cls := findClass_of_methodNamed Bd.named
  have hE : hp_E B D s0 p s m vals.toArray meth c cc own nm nL ret := ⟨Bd.exec, Bd.bytes, hml, Bd.returns, Bd.notSynchronized, by rw [← ho]; exact hown, by rw [← hnm]; exact (name_of_methodNamed Bd.named Bd.method).1, fun w h hr => hp_ride hW hr (G.2.1 w h), va_K.moved hW.alike G.2.2.1, hW⟩
  have hl := lv_entry vals (n := nL) hlen
  rw [hlv] at hl
  rw [lg_entry_eq]
  exact body p e s m vals.toArray below meth c hE hex _ hl ⟨hH, hlow, fun q hq => by cases hq⟩
theorem hp_throw (E : hp_E B D s0 p s m args meth c cc own nm nL ret) (hR : hp_S B D s0 S H locs) (hex : ∀ x ∈ c.exceptionTable.toList, False) {n mc ms : Nat} {Qc : Array Value → State → Outcome → State → Prop} {X : Nat → hp_St → Prop} (hc : st_C S n = 8) (hX : X n S) (hmc : cells ≤ mc) (hms : slots ≤ ms) (hdg : decode cc pc = .ok (.athrow, 1)) : W p l e R s m args below meth c H locs cells slots (vx_MQ below Qc (hp_XC B D s0 X) args s mc ms (fun q => B < q)) (F0 m pc ls (hp_v B n :: rest)) := by
  obtain ⟨hn, cell, g1, g2, g3, -⟩ := hR.ob (ci := 7) hc rfl
  rw [hp_vp hn]
  refine vx_athrow E.x E.b hdg ?_
  exact vx_out (fun x hx => (hex x hx).elim) E.lk g1 g3 (by rw [g2]; exact (E.K.1 7 _ rfl).2.1) (fun t ht hW => ⟨rfl, n, S, rfl, hc, hX, hR.W E ht hW⟩) hR.2.2 hmc hms
/-- behind a call that may throw, no handler here -/
theorem hp_xi {Q1 : Int32 → hp_St → Prop} {X1 X2 : Nat → hp_St → Prop} {a : Array Value} {mc ms MC MS : Nat} {st0 : List Value} {Qc : Array Value → State → Outcome → State → Prop} (E : hp_E B D s0 p s m args meth c cc own nm nL ret) (hr : vx_Run p l e R s m args below meth c H locs cells slots mc ms (F0 m pc ls st0) rest (hp_Qi B D s0 Q1 a) (hp_XC B D s0 X1) (fun q => B < q)) (hR : hp_S B D s0 S H locs) (hex : ∀ x ∈ c.exceptionTable.toList, False) (hx : ∀ n S', X1 n S' → X2 n S') (hmc : cells + mc ≤ MC) (hms : slots + ms ≤ MS) (hp : pc + 3 = pc') (kk : ∀ (r : Int32) (S1 : hp_St) (H1 : Heap) (locs1 : List Loc), Q1 r S1 → hp_S B D s0 S1 H1 locs1 → W p l e R s m args below meth c H1 locs1 (cells + (mc - 1)) (slots + (ms - 8)) (vx_MQ below Qc (hp_XC B D s0 X2) args s MC MS (fun q => B < q)) (F0 m pc' ls (.int r :: rest))) : W p l e R s m args below meth c H locs cells slots (vx_MQ below Qc (hp_XC B D s0 X2) args s MC MS (fun q => B < q)) (F0 m pc ls st0) := by
  subst hp
  intro T hT X
  rcases hr T hT X with ⟨v, st₀, t, T', L, h0, X', hL, e1, e2, ⟨r, S1, hv, hq, -, hlow, hH⟩, st⟩ | ⟨q, st₀, t, T', L, E', ce, h0, X', hL, e1, e2, ⟨hE, n, S1, hq, hcn, hX1, hW⟩, hce, hcv, hcl, st⟩
  · cases hv
    obtain ⟨t2, a1, b1⟩ := kk r S1 T'.heap (locs ++ L) hq ⟨by rw [e1]; exact hH, by rw [e1]; exact hlow, fun q hq => (List.mem_append.mp hq).elim (hR.2.2 q) (hL q)⟩ T' rfl X'
    exact ⟨t2, st t2 a1, b1⟩
  · have hvx : vx_W p l e R s m args below meth c T'.heap (locs ++ L) (cells + mc) (slots + ms) (vx_MQ below Qc (hp_XC B D s0 X2) args s MC MS (fun q => B < q)) (F0 m pc ls rest) q :=
      vx_out (fun x hx => (hex x hx).elim) E.lk (by rw [e1]; exact hce) hcv hcl (fun t' ht' hW' => ⟨hE, n, S1, hq, hcn, hx n S1 hX1, State.WarmedH.trans E.W hW', fun q hq => by rw [ht', e1]; exact hW.2.1 q hq, by rw [ht', e1]; exact hW.2.2⟩) (fun z hz => (List.mem_append.mp hz).elim (hR.2.2 z) (hL z)) hmc hms
    obtain ⟨t2, a1, b1⟩ := hvx T' rfl X'
    exact ⟨t2, st.trans a1, b1⟩
theorem hp_xv {Q1 : hp_St → Prop} {X1 X2 : Nat → hp_St → Prop} {a : Array Value} {mc ms MC MS : Nat} {st0 : List Value} {Qc : Array Value → State → Outcome → State → Prop} (E : hp_E B D s0 p s m args meth c cc own nm nL ret) (hr : vx_Run p l e R s m args below meth c H locs cells slots mc ms (F0 m pc ls st0) rest (hp_Qv B D s0 Q1 a) (hp_XC B D s0 X1) (fun q => B < q)) (hR : hp_S B D s0 S H locs) (hex : ∀ x ∈ c.exceptionTable.toList, False) (hx : ∀ n S', X1 n S' → X2 n S') (hmc : cells + mc ≤ MC) (hms : slots + ms ≤ MS) (hp : pc + 3 = pc') (kk : ∀ (S1 : hp_St) (H1 : Heap) (locs1 : List Loc), Q1 S1 → hp_S B D s0 S1 H1 locs1 → W p l e R s m args below meth c H1 locs1 (cells + (mc - 1)) (slots + (ms - 8)) (vx_MQ below Qc (hp_XC B D s0 X2) args s MC MS (fun q => B < q)) (F0 m pc' ls rest)) : W p l e R s m args below meth c H locs cells slots (vx_MQ below Qc (hp_XC B D s0 X2) args s MC MS (fun q => B < q)) (F0 m pc ls st0) := by
  subst hp
  intro T hT X
  rcases hr T hT X with ⟨v, st₀, t, T', L, h0, X', hL, e1, e2, ⟨S1, hv, hq, -, hlow, hH⟩, st⟩ | ⟨q, st₀, t, T', L, E', ce, h0, X', hL, e1, e2, ⟨hE, n, S1, hq, hcn, hX1, hW⟩, hce, hcv, hcl, st⟩
  · cases hv
    obtain ⟨t2, a1, b1⟩ := kk S1 T'.heap (locs ++ L) hq ⟨by rw [e1]; exact hH, by rw [e1]; exact hlow, fun q hq => (List.mem_append.mp hq).elim (hR.2.2 q) (hL q)⟩ T' rfl X'
    exact ⟨t2, st t2 a1, b1⟩
  · have hvx : vx_W p l e R s m args below meth c T'.heap (locs ++ L) (cells + mc) (slots + ms) (vx_MQ below Qc (hp_XC B D s0 X2) args s MC MS (fun q => B < q)) (F0 m pc ls rest) q :=
      vx_out (fun x hx => (hex x hx).elim) E.lk (by rw [e1]; exact hce) hcv hcl (fun t' ht' hW' => ⟨hE, n, S1, hq, hcn, hx n S1 hX1, State.WarmedH.trans E.W hW', fun q hq => by rw [ht', e1]; exact hW.2.1 q hq, by rw [ht', e1]; exact hW.2.2⟩) (fun z hz => (List.mem_append.mp hz).elim (hR.2.2 z) (hL z)) hmc hms
    obtain ⟨t2, a1, b1⟩ := hvx T' rfl X'
    exact ⟨t2, st.trans a1, b1⟩
theorem hp_rVX {y : MethodName} {bytes : ByteArray} {maxL fr lo mc ms index : Nat} {ret1 : Option FieldType} {As st0 : List Value} {Qc : Array Value → State → Outcome → State → Prop} {X : Nat → hp_St → Prop} (E : hp_E B D s0 p s m args meth c cc own nm nL ret) (hR : hp_S B D s0 S H locs) (hl : lv_has ls nL lv) {n ci : Nat} {r : vw_C} (hM : hp_MX l B D s0 y bytes maxL ret1 fr lo mc ms (hp_v B n :: As) S Qc X) (hc : st_C S n = ci + 1) (hci : hp_cl[ci]? = some r) (hC : r.1 = y.cls) (q1 : Cond.methodLink own index y ∈ lw_all) (q2 : Cond.instanceMethod y ∈ lw_all) (q3 : Cond.selects y.cls y y ∈ lw_all) (q4 : Cond.initialized y.cls ∈ lw_all) (q5 : Cond.code y bytes maxL ret1 ∈ lw_all) (hnf : hp_nf y As.length = true) (hroom : fr + 1 ≤ R.frames ∧ 8 + (maxL + 11) + lo ≤ R.locals) (hst : st0 = As.reverse ++ hp_v B n :: rest) (hsz : rest.length ≤ 4) (hdg : decode cc pc = .ok (.invokevirtual index, 3)) (hf : cells + mc ≤ R.cells ∧ slots + ms ≤ R.slots) :
    vx_Run p l e R s m args below meth c H locs cells slots mc ms (F0 m pc ls st0) rest (Qc (Value.ref (B + n) :: As).toArray) (hp_XC B D s0 X) (fun q => B < q) := by
  obtain ⟨hn, -⟩ := hR.ob hc hci
  have hr := hR.recv E.K hc hci
  rw [hC] at hr
  obtain ⟨n1, n2, n3⟩ := hp_nf_spec hnf
  unfold hp_MX at hM
  rw [hp_vp hn] at hM hst
  obtain ⟨k1, k2, k3, k4, k5, k6⟩ := hp_cb (R := R) (mc := mc) (ms := ms) E q5 hroom
  exact vx_runV (As := As) (rest := rest) (C := y.cls) ⟨E.x, E.b, E.ml, E.o, E.all⟩ hM ⟨⟨k1, k2, k3, k4, k5, k6, E.w q5, E.w q4, ⟨n1, n2⟩, n3, E.w q1⟩, E.w q2, E.w q3⟩ ⟨hp_blind, hr, fun U hU hW => ⟨rfl, hR.W E hU hW⟩⟩ rfl rfl hl.1 hst (hp_room hsz) hdg hf
end HPXC
