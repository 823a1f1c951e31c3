/-! BASE 8: throw new X() of the library's exceptions -/
set_option maxRecDepth 100000
def hp_XE (B : Nat) (D : va_G) (s0 : State) (X1 X2 : hp_St → Prop) : String → Nat → State → State → Prop := fun E _ _ t => ∃ S' : hp_St, hp_W B D s0 S' t ∧ ((E = RJ14 ∧ X1 S') ∨ (E = RJ16 ∧ X2 S'))
/-- a larger heap, no more known of it -/
def st_gr (S : hp_St) (z : Nat) : hp_St := (z, st_C S, st_L S, st_I S, st_R S, st_J S)
theorem st_gr_e {S : hp_St} {z : Nat} : st_Z (st_gr S z) = z ∧ st_C (st_gr S z) = st_C S ∧ st_L (st_gr S z) = st_L S ∧ st_I (st_gr S z) = st_I S ∧ st_R (st_gr S z) = st_R S ∧ st_J (st_gr S z) = st_J S := ⟨rfl, rfl, rfl, rfl, rfl, rfl⟩
theorem hp_mono_gr {S : hp_St} {z : Nat} (h : st_Z S ≤ z) : hp_mono S (st_gr S z) := ⟨h, fun _ _ => ⟨rfl, rfl⟩⟩
def hp_tw (ic : Nat) (X : String) : Bool := (vx_at0 "LifeRents" ic X ["java/lang/RuntimeException", "java/lang/Exception"]).all (fun w => (lw_tbl.any fun z => decide (z = w)) && (hp_rd w && vx_ot w))
theorem hp_tw14 : hp_tw 342 RJ14 = true := by decide +kernel
theorem hp_tw16 : hp_tw 345 RJ16 = true := by decide +kernel
theorem hp_tw_spec {ic : Nat} {X : String} (h : hp_tw ic X = true) : ∀ w ∈ vx_at0 "LifeRents" ic X ["java/lang/RuntimeException", "java/lang/Exception"], w ∈ lw_tbl ∧ hp_rd w = true ∧ vx_ot w = true := by
  intro w hw
  have h1 := List.all_eq_true.mp h w hw
  simp only [Bool.and_eq_true, List.any_eq_true, decide_eq_true_eq] at h1
  obtain ⟨⟨z, hz, rfl⟩, h2, h3⟩ := h1
  exact ⟨hz, h2, h3⟩
/-- the parts of a conjunction -/
def hp_cj_parts : Cond → List Cond
  | .and a b => hp_cj_parts a ++ hp_cj_parts b
  | w => [w]
theorem hp_cj_spec {args : Array Value} {s : State} : ∀ (w : Cond), w.before args s = true → ∀ v ∈ hp_cj_parts w, v.before args s = true := by
  intro w
  induction w with
  | and a b iha ihb =>
    intro h v hv
    simp only [Cond.before_and, Bool.and_eq_true] at h
    rcases List.mem_append.mp (show v ∈ hp_cj_parts a ++ hp_cj_parts b from hv) with hv | hv
    · exact iha h.1 v hv
    · exact ihb h.2 v hv
  | _ =>
    intro h v hv
    rw [List.mem_singleton.mp hv]
    exact h
def hp_np : List Cond := hp_cj_parts (Jvm.Cond.and given_1 narrow_1)
def hp_ni (w : Cond) : Bool := hp_np.any fun z => decide (z = w)
theorem hp_ni_spec {args : Array Value} {s : State} {w : Cond} (h : hp_ni w = true) (hn : (Jvm.Cond.and given_1 narrow_1).before args s = true) : w.before args s = true := by
  unfold hp_ni at h
  simp only [List.any_eq_true, decide_eq_true_eq] at h
  obtain ⟨z, hz, rfl⟩ := h
  exact hp_cj_spec _ hn z hz
theorem hp_s1 : hp_ni (.isRef (.static Bundle.tN "UNASSIGNED_STACK" Bundle.steD)) = true := by decide +kernel
theorem hp_s2 : hp_ni (.isRef (.static Bundle.tN "SUPPRESSED_SENTINEL" Bundle.listD)) = true := by decide +kernel
section HPTH
variable {p : Program} {l : Launch} {e : Env} {R : Room} {s : State} {m : MethodId} {args : Array Value} {below : List Frame} {meth : Method} {c : Code} {H : Heap} {locs : List Loc} {cells slots : Nat} {Q : State → Prop}
variable {B : Nat} {D : va_G} {s0 : State} {S : hp_St} {cc : ByteArray} {own nm : String} {nL : Nat} {ret : Option FieldType} {pc pc' : Nat} {ls : Array Slot} {rest : List Value} {lv : List (Nat × Value)}
theorem hp_Zq {b0 : Nat} (G : hp_G l B D s0 b0) {C n d : String} (h1 : (Cond.laysStatic C n d) ∈ lw_tbl) (h2 : Cond.initialized C ∈ lw_tbl) (h3 : hp_ni (Cond.isRef (.static C n d)) = true) {u : State} (hW : s0.WarmedH u.vm) (hh : ∀ q, q ≤ B → u.heap[q]? = s0.heap[q]?) : vx_Zq C n d (fun q => B < q) u u.heap := by
  have h := vx_Zqof (A := fun q => B < q) (G.2.1 _ h1) (G.2.1 _ h2) (hp_ni_spec h3 G.2.2.2.2.1) (fun a ha => by have := G.1; omega)
  exact vx_Zq.kept (vx_Zq.moved hW.alike h) (fun a _ ha => hh a (by omega))
theorem hp_thrN {b0 : Nat} (G : hp_G l B D s0 b0) (E : hp_E B D s0 p s m args meth c cc "LifeRents" nm nL ret) (hl : lv_has ls nL lv) {S0 : hp_St} (hR0 : hp_S B D s0 S0 s.heap []) (hR : hp_S B D s0 S H locs) (hsz0 : s.heap.size ≤ H.size) (hex : ∀ x ∈ c.exceptionTable.toList, False) {ik ic mc ms : Nat} {cls : String} (hcls : Bundle.fit cls = true) (hw : hp_tw ic cls = true) (hk : Cond.classLink "LifeRents" ik cls ∈ lw_all) (hini : Cond.initialized cls ∈ lw_all) {Qc : Array Value → State → Outcome → State → Prop} {X1 X2 : hp_St → Prop} (hx : ∀ z, st_Z S ≤ z → (cls = RJ14 ∧ X1 (st_gr S z)) ∨ (cls = RJ16 ∧ X2 (st_gr S z)))
    (d0 : decode cc pc = .ok (.new ik, 3)) (d3 : decode cc (pc + 3) = .ok (.dup, 1)) (d4 : decode cc (pc + 4) = .ok (.invokespecial ic, 3)) (d7 : decode cc (pc + 7) = .ok (.athrow, 1))
    (hRf : 5 < R.frames) (hRl : 81 ≤ R.locals) (hRc : cells + 1 ≤ R.cells) (hRs : slots + 6 ≤ R.slots) (hmc : cells + 1 ≤ mc) (hms : slots + 6 ≤ ms) : W p l e R s m args below meth c H locs cells slots (vx_MQ below Qc (hp_XE B D s0 X1 X2) args s mc ms (fun q => B < q)) (F0 m pc ls []) := by
  have hw' := hp_tw_spec hw
  have hsh : ∀ q, q ≤ B → s.heap[q]? = s0.heap[q]? := hR0.2.1
  have s3 : (Cond.laysStatic Bundle.tN "UNASSIGNED_STACK" Bundle.steD) ∈ lw_tbl := q499
  have s4 : (Cond.laysStatic Bundle.tN "SUPPRESSED_SENTINEL" Bundle.listD) ∈ lw_tbl := q501
  have s5 : (Cond.initialized Bundle.tN) ∈ lw_tbl := lw_all_tbl q87
  have hst : l.stackTraces = false := by
    unfold Launch.stackTraces
    rw [G.2.2.2.1]
    decide +kernel
  refine vx_throw0 (A := fun q => B < q) (names := ["java/lang/RuntimeException", "java/lang/Exception"]) E.x E.b hst E.o hcls (by decide +kernel) (E.w hk) (E.w hini) (fun w h => E.n (hw' w h).1 (hw' w h).2.1) ?_ (hp_Zq G s3 s5 hp_s1 E.W hsh) (hp_Zq G s4 s5 hp_s2 E.W hsh) ⟨hsz0, fun q hq hA => ?_, hR.2.2⟩ (by rw [E.ml]; exact hl.1) d0 d3 d4 d7 (fun x h => (hex x h).elim) hRf (by simpa using hRl) hRc hRs E.lk ?_ hR.2.2 hmc hms
  · intro w h
    rcases List.mem_cons.mp h with rfl | h
    · rfl
    · rcases List.mem_cons.mp h with rfl | h
      · rfl
      · exact (hw' w h).2.2
  · have : q ≤ B := by omega
    exact (hR.2.1 q this).trans (hsh q this).symm
  · intro t ht h1 h2 q
    have hH1 := hR.1.1
    have hz : st_Z S ≤ t.heap.size - B := by omega
    refine ⟨st_gr S (t.heap.size - B), ⟨State.WarmedH.trans E.W ht, fun q hq => ?_, ?_⟩, hx _ hz⟩
    · have h3 := hR.1.2.1
      rw [h2 q (by omega)]
      exact hR.2.1 q hq
    · refine ⟨?_, ?_, fun n hn => ?_⟩
      · show t.heap.size = B + (t.heap.size - B)
        omega
      · have h3 := hR.1.2.1
        show 0 < t.heap.size - B
        omega
      · obtain ⟨g1, g2, g3⟩ := hR.1.2.2 n hn
        exact ⟨g1, by show n < t.heap.size - B; omega, g3.kept rfl rfl (fun _ => rfl) (fun _ => rfl) (fun _ => rfl) (h2 _ (by omega))⟩
end HPTH
def hp_ME (l : Launch) (B : Nat) (D : va_G) (s0 : State) (y : MethodName) (cc : ByteArray) (nL : Nat) (ret : Option FieldType) (fr lo mc ms : Nat) (vals : List Value) (S : hp_St) (Qc : Array Value → State → Outcome → State → Prop) (X1 X2 : hp_St → Prop) : Prop :=
  vx_Met l y [Cond.code y cc nL ret] ({ frames := fr, cells := mc, slots := ms, locals := lo }) (va_Pc vals (hp_W B D s0 S)) Qc (hp_XE B D s0 X1 X2) mc ms (fun q => B < q)
section HPXE
variable {p : Program} {l : Launch} {e : Env} {R : Room} {s : State} {m : MethodId} {args : Array Value} {below : List Frame} {meth : Method} {c : Code} {H : Heap} {locs : List Loc} {cells slots : Nat} {Q : State → Prop}
variable {B : Nat} {D : va_G} {s0 : State} {S : hp_St} {cc : ByteArray} {own nm : String} {nL : Nat} {ret : Option FieldType} {pc pc' : Nat} {ls : Array Slot} {rest : List Value} {lv : List (Nat × Value)}
theorem hp_startE {b0 : Nat} (G : hp_G l B D s0 b0) {y : MethodName} {own nm : String} {fr lo mc ms : Nat} {vals : List Value} {Qc : Array Value → State → Outcome → State → Prop} {X1 X2 : hp_St → Prop} (hy : plainName y.cls = true) (ho : y.cls = own) (hnm : y.name = nm) (hlen : (lg_sl vals).length ≤ nL) (hlv : lv_args 0 vals = lv)
    (body : ∀ (p : Program) (e : Env) (s : State) (m : MethodId) (args : Array Value) (below : List Frame) (meth : Method) (c : Code), hp_E B D s0 p s m args meth c cc own nm nL ret → (∀ x ∈ c.exceptionTable.toList, False) → ∀ ls : Array Slot, lv_has ls nL lv → hp_S B D s0 S s.heap [] → W p l e ({ frames := fr, cells := mc, slots := ms, locals := lo }) s m args below meth c s.heap [] 0 0 (vx_MQ below Qc (hp_XE B D s0 X1 X2) args s mc ms (fun q => B < q)) (F0 m 0 ls [])) : hp_ME l B D s0 y cc nL ret fr lo mc ms vals S Qc X1 X2 := by
  refine vx_ofW (cc := cc) (maxL := nL) (ret := ret) hy rfl ?_
  intro p e s m args below meth c s₁ Bd hml hex hv
  obtain ⟨rfl, hW, hlow, hH⟩ := hv
  have hown : s.vm.findClass y.cls = some m.cls := findClass_of_methodNamed Bd.named
  have hE : hp_E B D s0 p s m vals.toArray meth c cc own nm nL ret := ⟨Bd.exec, Bd.bytes, hml, Bd.returns, Bd.notSynchronized, by rw [← ho]; exact hown, by rw [← hnm]; exact (name_of_methodNamed Bd.named Bd.method).1, fun w h hr => hp_ride hW hr (G.2.1 w h), va_K.moved hW.alike G.2.2.1, hW⟩
  have hl := lv_entry vals (n := nL) hlen
  rw [hlv] at hl
  rw [lg_entry_eq]
  exact body p e s m vals.toArray below meth c hE hex _ hl ⟨hH, hlow, fun q hq => by cases hq⟩
theorem hp_rVE {y : MethodName} {bytes : ByteArray} {maxL fr lo mc ms index : Nat} {ret1 : Option FieldType} {As st0 : List Value} {Qc : Array Value → State → Outcome → State → Prop} {X1 X2 : hp_St → Prop} (E : hp_E B D s0 p s m args meth c cc own nm nL ret) (hR : hp_S B D s0 S H locs) (hl : lv_has ls nL lv) {n ci : Nat} {r : vw_C} (hM : hp_ME l B D s0 y bytes maxL ret1 fr lo mc ms (hp_v B n :: As) S Qc X1 X2) (hc : st_C S n = ci + 1) (hci : hp_cl[ci]? = some r) (hC : r.1 = y.cls) (q1 : Cond.methodLink own index y ∈ lw_all) (q2 : Cond.instanceMethod y ∈ lw_all) (q3 : Cond.selects y.cls y y ∈ lw_all) (q4 : Cond.initialized y.cls ∈ lw_all) (q5 : Cond.code y bytes maxL ret1 ∈ lw_all) (hnf : hp_nf y As.length = true) (hroom : fr + 1 ≤ R.frames ∧ 8 + (maxL + 11) + lo ≤ R.locals) (hst : st0 = As.reverse ++ hp_v B n :: rest) (hsz : rest.length ≤ 4) (hdg : decode cc pc = .ok (.invokevirtual index, 3)) (hf : cells + mc ≤ R.cells ∧ slots + ms ≤ R.slots) :
    vx_Run p l e R s m args below meth c H locs cells slots mc ms (F0 m pc ls st0) rest (Qc (Value.ref (B + n) :: As).toArray) (hp_XE B D s0 X1 X2) (fun q => B < q) := by
  obtain ⟨hn, -⟩ := hR.ob hc hci
  have hr := hR.recv E.K hc hci
  rw [hC] at hr
  obtain ⟨n1, n2, n3⟩ := hp_nf_spec hnf
  unfold hp_ME at hM
  rw [hp_vp hn] at hM hst
  obtain ⟨k1, k2, k3, k4, k5, k6⟩ := hp_cb (R := R) (mc := mc) (ms := ms) E q5 hroom
  exact vx_runV (As := As) (rest := rest) (C := y.cls) ⟨E.x, E.b, E.ml, E.o, E.all⟩ hM ⟨⟨k1, k2, k3, k4, k5, k6, E.w q5, E.w q4, ⟨n1, n2⟩, n3, E.w q1⟩, E.w q2, E.w q3⟩ ⟨hp_blind, hr, fun U hU hW => ⟨rfl, hR.W E hU hW⟩⟩ rfl rfl hl.1 hst (hp_room hsz) hdg hf
end HPXE
