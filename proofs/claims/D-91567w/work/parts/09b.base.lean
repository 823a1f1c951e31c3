/-! BASE 5: grids, Math.max and min -/
set_option maxRecDepth 100000
/-- which grid: outer code, inner code, element type, places in hp_tys -/
def hp_mk (c1 c2 k1 k2 : Nat) (ty : FieldType) : Prop := (∀ D : va_G, (hp_tys D)[k1]? = some (D.1 c1, .array ty)) ∧ (∀ D : va_G, (hp_tys D)[k2]? = some (D.1 c2, ty)) ∧ 53 < c1 ∧ 50 ≤ c2 ∧ c2 < 53 ∧ defaultValue ty = .int 0 ∧ fits ty (defaultValue ty) = true ∧ (∀ (u : State) (cA : ClassId), va_RA u cA ty → u.vm.findClass ("[" ++ ty.toString) = some cA) ∧ (FieldType.array ty).toString = "[" ++ ty.toString
theorem hp_mk_int : hp_mk 55 50 5 0 .int := ⟨fun _ => rfl, fun _ => rfl, by decide, by decide, by decide, rfl, rfl, fun _ _ h => h, rfl⟩
theorem hp_mk_boolean : hp_mk 56 51 6 1 .boolean := ⟨fun _ => rfl, fun _ => rfl, by decide, by decide, by decide, rfl, rfl, fun _ _ h => h, rfl⟩
theorem hp_outer (c : ClassId) (N h0 : Nat) : ∀ i, i ≤ N → Jvm.Free.Multi.outerC c N h0 i = arrV c N (fun j => if j < i then .ref (h0 + 1 + j) else .null)
  | 0, _ => by
    show ({ cls := c, slots := Array.replicate N .null, vm := .none } : Cell) = _
    rw [arrV_new]
    rfl
  | i + 1, hi => by
    show (Jvm.Free.Multi.outerC c N h0 i).setSlot i (.ref (h0 + 1 + i)) = _
    rw [hp_outer c N h0 i (by omega), arrV_store]
    congr 1
    funext j
    unfold updV
    by_cases h : j = i
    · subst h
      rw [if_pos rfl, if_pos (by omega)]
    · by_cases h2 : j < i
      · rw [if_neg h]
        show (if j < i then _ else _) = _
        rw [if_pos h2, if_pos (by omega)]
      · rw [if_neg h]
        show (if j < i then _ else _) = _
        rw [if_neg h2, if_neg (by omega)]
section HPM
variable {p : Program} {l : Launch} {e : Env} {R : Room} {s : State} {m : MethodId} {args : Array Value} {below : List Frame} {meth : Method} {c : Code} {H : Heap} {locs : List Loc} {cells slots : Nat} {Q : State → Prop}
variable {B : Nat} {D : va_G} {s0 : State} {S : hp_St} {cc : ByteArray} {own nm : String} {nL : Nat} {ret : Option FieldType} {pc pc' : Nat} {ls : Array Slot} {rest : List Value} {lv : List (Nat × Value)}
theorem hp_mono_n2 {S : hp_St} {c1 c2 n k : Nat} (h : hp_fr S (st_Z S)) : hp_mono S (st_n2 S c1 c2 n k) := ⟨by show st_Z S ≤ st_Z S + 1 + n; omega, fun a ha => by
  have h1 := (h.2 a ha).2
  have e1 : ¬ a = st_Z S := by omega
  have e2 : ¬ (st_Z S < a ∧ a < st_Z S + 1 + n) := by omega
  refine ⟨?_, ?_⟩
  · show (if a = st_Z S then c1 else if st_Z S < a ∧ a < st_Z S + 1 + n then c2 else st_C S a) = _
    rw [if_neg e1, if_neg e2]
  · show (if a = st_Z S then n else if st_Z S < a ∧ a < st_Z S + 1 + n then k else st_L S a) = _
    rw [if_neg e1, if_neg e2]⟩
theorem hx_multi (E : hp_E B D s0 p s m args meth c cc own nm nL ret) (hR : hp_S B D s0 S H locs) {c1 c2 k1 k2 : Nat} {ty : FieldType} (hmk : hp_mk c1 c2 k1 k2 ty) {index : Nat} {cn : String} (hcn : cn = "[" ++ (FieldType.array ty).toString) (hcl : Cond.classLink own index cn ∈ lw_all) (hover : Cond.arrayOver (.array ty) ∈ lw_tbl) (harr : Cond.arrayClass ty ∈ lw_all) {n k : Nat} {ni ki : Int32} (hni : ¬ ni < 0 ∧ ni.toNatClampNeg = n) (hki : ¬ ki < 0 ∧ ki.toNatClampNeg = k) (hb1 : n * 4 ≤ 536870912) (hb2 : k * componentBytes ty ≤ 536870912) (hb3 : k ≤ 536870912) (hcells : cells + (1 + n) ≤ R.cells) (hslots : slots + (n + n * k) ≤ R.slots) (hdg : decode cc pc = .ok (.multianewarray index 2, 4)) (hp : pc + 4 = pc')
    (kk : ∀ (n1 : Nat) (S1 : hp_St) (H1 : Heap), n1 = st_Z S → S1 = st_n2 S c1 c2 n k → hp_fr S n1 → hp_mono S S1 → st_C S1 n1 = c1 → hp_S B D s0 S1 H1 locs → W p l e R s m args below meth c H1 locs (cells + (1 + n)) (slots + (n + n * k)) Q (F0 m pc' ls (hp_v B n1 :: rest))) : W p l e R s m args below meth c H locs cells slots Q (F0 m pc ls (.int ki :: .int ni :: rest)) := by
  subst hp
  subst hcn
  obtain ⟨m1, m2, m3, m4, m5, m6, m7, m8, m9⟩ := hmk
  obtain ⟨hn0, hn⟩ := hni
  obtain ⟨hk0, hk⟩ := hki
  subst hn
  subst hk
  have hZ0 := hR.1.2.1
  intro T hT X
  obtain ⟨vm₁, cA, comp, hW, hfA, hfC, -, -, X', st⟩ := X.multianewarray2F E.x E.o (E.w hcl) (E.n hover rfl) (E.w harr) (g := F0 m pc ls (.int ki :: .int ni :: rest)) rfl (by rw [E.b]; exact hdg) rfl hn0 hk0 hb1 hb2 hb3 m7 (by rw [m6]; rfl) hcells hslots
  obtain ⟨f1, f2, f3, -⟩ := Jvm.Free.Multi.fill_facts (T.setVm vm₁) cA comp ni.toNatClampNeg ki.toNatClampNeg (defaultValue ty) ni.toNatClampNeg
  have fo : ∀ a, a < T.heap.size → (Jvm.Free.Multi.fill (T.setVm vm₁) cA comp ni.toNatClampNeg ki.toNatClampNeg (defaultValue ty) ni.toNatClampNeg).heap[a]? = T.heap[a]? := fun a ha => Jvm.Free.Multi.fill_old (T.setVm vm₁) cA comp ni.toNatClampNeg ki.toNatClampNeg (defaultValue ty) ha ni.toNatClampNeg
  have fi := Jvm.Free.Multi.fill_inner (T.setVm vm₁) cA comp ni.toNatClampNeg ki.toNatClampNeg (defaultValue ty) ni.toNatClampNeg
  have hTs : (T.setVm vm₁).heap.size = B + st_Z S := by rw [show (T.setVm vm₁).heap = T.heap from rfl, hT]; exact hR.1.1
  have hTs2 : T.heap.size = B + st_Z S := by rw [hT]; exact hR.1.1
  rw [hTs] at f1 f2 fi
  rw [hTs2] at fo st
  rw [hp_outer cA ni.toNatClampNeg (B + st_Z S) ni.toNatClampNeg (Nat.le_refl _)] at f2
  have hcA : D.1 c1 = cA := by
    have h1 := (E.K.2 k1 _ (m1 D)).2
    have h2 : s.vm.findClass ("[" ++ (FieldType.array ty).toString) = some (D.1 c1) := h1
    exact Option.some.inj (h2.symm.trans hfA)
  have hcC : D.1 c2 = comp := by
    have h1 := m8 _ _ (E.K.2 k2 _ (m2 D)).2
    rw [m9] at hfC
    exact Option.some.inj (h1.symm.trans hfC)
  generalize hF : Jvm.Free.Multi.fill (T.setVm vm₁) cA comp ni.toNatClampNeg ki.toNatClampNeg (defaultValue ty) ni.toNatClampNeg = F at X' st f1 f2 fi fo
  have hS1 : hp_S B D s0 (st_n2 S c1 c2 ni.toNatClampNeg ki.toNatClampNeg) F.heap locs := by
    refine ⟨⟨by rw [f1]; show _ = B + (st_Z S + 1 + ni.toNatClampNeg); omega, by show 0 < st_Z S + 1 + ni.toNatClampNeg; omega, fun a ha => ?_⟩, fun q hq => ?_, hR.2.2⟩
    · have hC : st_C (st_n2 S c1 c2 ni.toNatClampNeg ki.toNatClampNeg) a = if a = st_Z S then c1 else if st_Z S < a ∧ a < st_Z S + 1 + ni.toNatClampNeg then c2 else st_C S a := rfl
      have hL : st_L (st_n2 S c1 c2 ni.toNatClampNeg ki.toNatClampNeg) a = if a = st_Z S then ni.toNatClampNeg else if st_Z S < a ∧ a < st_Z S + 1 + ni.toNatClampNeg then ki.toNatClampNeg else st_L S a := rfl
      have hI : ∀ j, st_I (st_n2 S c1 c2 ni.toNatClampNeg ki.toNatClampNeg) a j = if st_Z S ≤ a ∧ a < st_Z S + 1 + ni.toNatClampNeg then 0 else st_I S a j := fun _ => rfl
      have hRr : ∀ j, st_R (st_n2 S c1 c2 ni.toNatClampNeg ki.toNatClampNeg) a j = if a = st_Z S then st_Z S + 1 + j else st_R S a j := fun _ => rfl
      by_cases h1 : a = st_Z S
      · subst h1
        refine ⟨by omega, by show st_Z S < st_Z S + 1 + _; omega, ?_⟩
        unfold hp_ck
        rw [hC, if_pos rfl, hL, if_pos rfl, if_neg (by omega), if_neg (by omega), if_neg (by omega), f2, hcA]
        have : ∀ j, j < ni.toNatClampNeg → (if j < ni.toNatClampNeg then Value.ref (B + st_Z S + 1 + j) else .null) = hp_v B (st_R (st_n2 S c1 c2 ni.toNatClampNeg ki.toNatClampNeg) (st_Z S) j) := by
          intro j hj
          rw [if_pos hj, hRr, if_pos rfl, hp_vp (by omega), show B + st_Z S + 1 + j = B + (st_Z S + 1 + j) by omega]
        congr 1
        unfold arrV
        congr 1
        apply Array.ext
        · simp
        · intro i h2 h3
          simp only [Array.getElem_ofFn]
          exact this i (by simpa using h2)
      · by_cases h2 : st_Z S < a ∧ a < st_Z S + 1 + ni.toNatClampNeg
        · refine ⟨by omega, by show a < st_Z S + 1 + _; omega, ?_⟩
          unfold hp_ck
          rw [hC, if_neg h1, if_pos h2, hL, if_neg h1, if_pos h2, if_neg (by omega), if_pos (by omega)]
          have h4 := fi (a - st_Z S - 1) (by omega)
          rw [show B + st_Z S + 1 + (a - st_Z S - 1) = B + a by omega] at h4
          rw [h4, hcC]
          show some ({ cls := comp, slots := Array.replicate _ (defaultValue ty), vm := .none } : Cell) = _
          rw [arrV_new, m6]
          congr 2
          funext j
          rw [hI, if_pos (by omega)]
        · rw [hC, if_neg h1, if_neg h2] at ha
          obtain ⟨g1, g2, g3⟩ := hR.1.2.2 a ha
          refine ⟨g1, by show a < st_Z S + 1 + _; omega, g3.kept (by rw [hC, if_neg h1, if_neg h2]) (by rw [hL, if_neg h1, if_neg h2]) (fun j => by rw [hI, if_neg (by omega)]) (fun j => by rw [hRr, if_neg h1]) (fun _ => rfl) ?_⟩
          rw [fo _ (by omega), hT]
    · rw [fo _ (by omega), hT]
      exact hR.2.1 q hq
  have hc1 : st_C (st_n2 S c1 c2 ni.toNatClampNeg ki.toNatClampNeg) (st_Z S) = c1 := by
    show (if st_Z S = st_Z S then c1 else _) = c1
    rw [if_pos rfl]
  rw [show cells + 1 + ni.toNatClampNeg = cells + (1 + ni.toNatClampNeg) by omega, show slots + ni.toNatClampNeg + ni.toNatClampNeg * ki.toNatClampNeg = slots + (ni.toNatClampNeg + ni.toNatClampNeg * ki.toNatClampNeg) by omega] at X'
  obtain ⟨t, a1, b1⟩ := kk _ _ F.heap rfl rfl hR.fr (hp_mono_n2 hR.fr) hc1 hS1 F rfl X'
  rw [hp_vp (by omega)] at a1
  exact ⟨t, st t a1, b1⟩
theorem hp_mxc : Lib.Math.max.code = cJ10_max := by decide +kernel
theorem hp_mnc : Lib.Math.min.code = cJ10_min := by decide +kernel
theorem hp_max (E : hp_E B D s0 p s m args meth c cc own nm nL ret) (hl : lv_has ls nL lv) {x y : Int32} {index : Nat} (q1 : Cond.methodLink own index yJ10_max ∈ lw_all) (hfr : 1 ≤ R.frames) (hsz : rest.length ≤ 4) (hlo : 21 ≤ R.locals) (hc : cells ≤ R.cells) (hs : slots ≤ R.slots) (hdg : decode cc pc = .ok (.invokestatic index, 3)) (hp : pc + 3 = pc')
    (kk : W p l e R s m args below meth c H locs cells slots Q (F0 m pc' ls (.int (if x < y then y else x) :: rest))) : W p l e R s m args below meth c H locs cells slots Q (F0 m pc ls (.int y :: .int x :: rest)) := by
  subst hp
  have h8 := hp_room (m := m) (pc := pc) (ls := ls) (rest := rest) hsz
  have h0 : 2 * (F0 m pc ls rest).monitorRoom = 0 := rfl
  exact va_mmax E.x E.b (by rw [E.ml]; exact hl.1.symm) E.o (E.w q1) (E.w q634) (E.w q92) (by rw [hp_mxc]; exact E.w q635) hfr (by omega) hc hs hdg kk
theorem hp_min (E : hp_E B D s0 p s m args meth c cc own nm nL ret) (hl : lv_has ls nL lv) {x y : Int32} {index : Nat} (q1 : Cond.methodLink own index yJ10_min ∈ lw_all) (hfr : 1 ≤ R.frames) (hsz : rest.length ≤ 4) (hlo : 21 ≤ R.locals) (hc : cells ≤ R.cells) (hs : slots ≤ R.slots) (hdg : decode cc pc = .ok (.invokestatic index, 3)) (hp : pc + 3 = pc')
    (kk : W p l e R s m args below meth c H locs cells slots Q (F0 m pc' ls (.int (if y < x then y else x) :: rest))) : W p l e R s m args below meth c H locs cells slots Q (F0 m pc ls (.int y :: .int x :: rest)) := by
  subst hp
  have h8 := hp_room (m := m) (pc := pc) (ls := ls) (rest := rest) hsz
  have h0 : 2 * (F0 m pc ls rest).monitorRoom = 0 := rfl
  exact va_mmin E.x E.b (by rw [E.ml]; exact hl.1.symm) E.o (E.w q1) (E.w q673) (E.w q92) (by rw [hp_mnc]; exact E.w q674) hfr (by omega) hc hs hdg kk
end HPM
