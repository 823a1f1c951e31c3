/-! BASE 10: the words of the acts, their texts -/
set_option maxRecDepth 100000
/-- the words of the acts, and the place of one among them (-1: none) -/
def hp_words : List (List Int32) := [[109, 97, 121], [98, 97, 114], [112, 114, 105, 99, 101], [108, 117, 109, 112], [97, 114, 114, 101, 97, 114, 115], [119, 97, 105, 116], [114, 97, 116, 101], [99, 97, 112], [97, 103, 101], [99, 108, 97, 115, 115], [104, 97, 108, 102], [106, 111, 105, 110, 116], [115, 105, 110, 103, 108, 101], [116, 111], [111, 114]]
def hp_wl : List Nat := [3, 3, 5, 4, 7, 4, 4, 3, 3, 5, 4, 5, 6, 2, 2]
def hp_we : List Nat := [367, 368, 370, 371, 372, 373, 374, 375, 376, 377, 379, 381, 383, 385, 387]
def hp_wt (i : Nat) : Term := .string "LifeRents" (hp_we.getD i 0)
def hp_wv (i : Nat) : Term := .field (hp_wt i) "java/lang/String" "value" "[B"
def hp_wS : Term := .static "LifeRents" "WORDS" "[Ljava/lang/String;"
theorem hp_wc1 : ∀ i, i < 15 → hp_ni (.exactly (hp_wt i) "java/lang/String") = true ∧ hp_ni (.eq (.field (hp_wt i) "java/lang/String" "coder" "B") (.int 0)) = true ∧ hp_ni (.arrayOf (hp_wv i) .byte) = true ∧ hp_ni (.eq (.length (hp_wv i)) (.int (Int32.ofNat (hp_wl.getD i 0)))) = true ∧ hp_ni (.eq (.elem hp_wS (.int (Int32.ofNat i))) (hp_wt i)) = true := by decide +kernel
theorem hp_wc2 : ∀ i, i < 15 → ∀ j, j < hp_wl.getD i 0 → hp_ni (.eq (.elem (hp_wv i) (.int (Int32.ofNat j))) (.int ((hp_words.getD i []).getD j 0))) = true := by decide +kernel
theorem hp_wc4 : hp_ni (.arrayOf hp_wS (.object "java/lang/String")) = true ∧ hp_ni (.eq (.length hp_wS) (.int 15)) = true ∧ hp_ni (.eq (.static "java/lang/String" "COMPACT_STRINGS" "Z") (.int 1)) = true ∧ hp_ni (.isRef (.static "jdk/internal/util/Preconditions" "SIOOBE_FORMATTER" "Ljava/util/function/BiFunction;")) = true := by decide +kernel
theorem hp_wc5 : ∀ i, i < 15 → hp_wl.getD i 0 < 2 ^ 31 ∧ hp_wl.getD i 0 = (hp_words.getD i []).length := by decide +kernel
theorem hp_wc6 : ∀ i, i < 15 → ∀ b ∈ hp_words.getD i [], ((b &&& 255).toUInt32 % 65536).toInt32 = b := by decide +kernel
theorem hp_eqT {args : Array Value} {s : State} {t u : Term} {a : Nat} (h : (Cond.eq t u).before args s = true) (hu : u.eval args s none [] s = some (.ref a)) : t.eval args s none [] s = some (.ref a) := by
  cases hv : t.eval args s none [] s with
  | none => simp [Cond.before, Cond.holds, Cond.value, hv] at h
  | some w =>
    simp only [Cond.before, Cond.holds, Cond.value, hv, hu] at h
    cases w <;> simp_all
theorem hp_gm {l : List Int32} {k : Nat} (h : k < l.length) : l.getD k 0 ∈ l := by
  rw [List.getD_eq_getElem?_getD, List.getElem?_eq_getElem h]
  exact List.getElem_mem h
/-- a text -/
def hp_VS (adK adV : Nat → Nat) (B : Nat) (U : State) (i : Nat) : Prop := va_O "java/lang/String" (adK i) (fun q => B < q) U U.heap ∧ va_OF "java/lang/String" "coder" "B" (.int 0) (adK i) (fun q => B < q) U U.heap ∧ va_OF "java/lang/String" "value" "[B" (.ref (adV i)) (adK i) (fun q => B < q) U U.heap ∧ va_T .byte (adV i) (hp_wl.getD i 0) (fun j => .int ((hp_words.getD i []).getD j 0)) (fun q => B < q) U U.heap
/-- the texts, where they lie -/
def hp_WD (tW : Nat) (adK adV : Nat → Nat) (B : Nat) (U : State) : Prop := va_Z "LifeRents" "WORDS" "[Ljava/lang/String;" (.ref tW) (fun q => B < q) U U.heap ∧ va_T (.object "java/lang/String") tW 15 (fun j => .ref (adK j)) (fun q => B < q) U U.heap ∧ (∀ i, i < 15 → hp_VS adK adV B U i) ∧ va_Z "java/lang/String" "COMPACT_STRINGS" "Z" (.int 1) (fun q => B < q) U U.heap ∧ va_Zq "jdk/internal/util/Preconditions" "SIOOBE_FORMATTER" "Ljava/util/function/BiFunction;" (fun q => B < q) U U.heap
theorem hp_WD0 {l : Launch} {B : Nat} {D : va_G} {s0 : State} {b0 : Nat} (G : hp_G l B D s0 b0) : ∃ (tW : Nat) (adK adV : Nat → Nat), hp_WD tW adK adV B s0 := by
  have hA : ∀ a : Nat, a < s0.heap.size → ¬ B < a := fun a ha => by have := G.1; omega
  have hN := G.2.2.2.2.1
  have h0 : ∀ i : Nat, ∃ q : Nat × Nat, i < 15 → (hp_wt i).eval #[Value.ref b0] s0 none [] s0 = some (.ref q.1) ∧ hp_VS (fun _ => q.1) (fun _ => q.2) B s0 i := by
    intro i
    by_cases hi : i < 15
    · obtain ⟨a, c, cA, kA, q1, q2, q3, q4, q5, q6, -⟩ := Cond.exactly_spec (args := #[Value.ref b0]) (first := s0) (o := none) (s := s0) (idx := []) (t := hp_wt i) (cls := "java/lang/String") (hp_ni_spec (hp_wc1 i hi).1 hN)
      obtain ⟨t, ht, hT⟩ := va_Tof (args := #[Value.ref b0]) (tm := hp_wv i) (ty := .byte) (N := hp_wl.getD i 0) (f := fun j => .int ((hp_words.getD i []).getD j 0)) (A := fun q => B < q) (hp_wc5 i hi).1 (hp_ni_spec (hp_wc1 i hi).2.2.1 hN) (va_eqt (hp_ni_spec (hp_wc1 i hi).2.2.2.1 hN)) (fun j hj => va_eqt (hp_ni_spec (hp_wc2 i hi j hj) hN)) hA
      exact ⟨(a, t), fun _ => ⟨q1, ⟨cA, q3, q5, by rw [q6]; exact q2, hA a (Array.getElem?_eq_some_iff.mp q3).1⟩, vk_OFof q1 (va_eqt (hp_ni_spec (hp_wc1 i hi).2.1 hN)) hA, vk_OFof q1 ht hA, hT⟩⟩
    · exact ⟨(0, 0), fun h => absurd h hi⟩
  obtain ⟨ad, had⟩ := Classical.axiomOfChoice h0
  obtain ⟨adK, hK⟩ : ∃ adK : Nat → Nat, adK = fun i => (ad i).1 := ⟨_, rfl⟩
  obtain ⟨adV, hV⟩ : ∃ adV : Nat → Nat, adV = fun i => (ad i).2 := ⟨_, rfl⟩
  have hev : ∀ i, i < 15 → (hp_wt i).eval #[Value.ref b0] s0 none [] s0 = some (.ref (adK i)) := fun i hi => by rw [hK]; exact (had i hi).1
  have hS : ∀ i, i < 15 → hp_VS adK adV B s0 i := fun i hi => by rw [hK, hV]; exact (had i hi).2
  obtain ⟨tW, htW, hT⟩ := va_Tof (args := #[Value.ref b0]) (tm := hp_wS) (ty := .object "java/lang/String") (N := 15) (f := fun j => .ref (adK j)) (A := fun q => B < q) (by decide) (hp_ni_spec hp_wc4.1 hN) (va_eqt (hp_ni_spec hp_wc4.2.1 hN)) (fun j hj => hp_eqT (hp_ni_spec (hp_wc1 j hj).2.2.2.2 hN) (hev j hj)) hA
  exact ⟨tW, adK, adV, va_Zof (G.2.1 _ q417) (G.2.1 _ (lw_all_tbl q73)) htW hA, hT, hS, va_Zof (G.2.1 _ q427) (G.2.1 _ (lw_all_tbl q83)) (va_eqt (hp_ni_spec hp_wc4.2.2.1 hN)) hA, va_Zqof (G.2.1 _ q443) (G.2.1 _ (lw_all_tbl q85)) (hp_ni_spec hp_wc4.2.2.2 hN) hA⟩
theorem hp_WD.to {tW : Nat} {adK adV : Nat → Nat} {B : Nat} {s0 s : State} (h : hp_WD tW adK adV B s0) (h1 : s0.heap.size = B + 1) (hW : s0.WarmedH s.vm) (hh : ∀ q, q ≤ B → s.heap[q]? = s0.heap[q]?) : hp_WD tW adK adV B s := by
  have hq : ∀ a : Nat, a < s0.heap.size → ¬ B < a → s.heap[a]? = s0.heap[a]? := fun a _ ha => hh a (by omega)
  exact ⟨va_Z.kept (va_Z.moved hW.alike h.1) hq, va_T.kept (va_T.moved hW.alike h.2.1) hq, fun i hi => ⟨va_O.kept (va_O.moved hW.alike (h.2.2.1 i hi).1) hq, va_OF.kept (va_OF.moved hW.alike (h.2.2.1 i hi).2.1) hq, va_OF.kept (va_OF.moved hW.alike (h.2.2.1 i hi).2.2.1) hq, va_T.kept (va_T.moved hW.alike (h.2.2.1 i hi).2.2.2) hq⟩, va_Z.kept (va_Z.moved hW.alike h.2.2.2.1) hq, va_Zq.kept (va_Zq.moved hW.alike h.2.2.2.2) hq⟩
section HPWS
variable {p : Program} {l : Launch} {e : Env} {R : Room} {s : State} {m : MethodId} {args : Array Value} {below : List Frame} {meth : Method} {c : Code} {H : Heap} {locs : List Loc} {cells slots : Nat} {Q : State → Prop}
variable {B : Nat} {D : va_G} {s0 : State} {S : hp_St} {cc : ByteArray} {own nm : String} {nL : Nat} {ret : Option FieldType} {pc pc' : Nat} {ls : Array Slot} {rest : List Value} {lv : List (Nat × Value)}
variable {y : MethodName} {bytes : ByteArray} {maxL fr lo mc ms index : Nat} {ret1 : Option FieldType} {As st0 : List Value} {Qc : Array Value → State → Outcome → State → Prop}
/-- invokevirtual on an object outside of the state -/
theorem hp_rVs (E : hp_E B D s0 p s m args meth c cc own nm nL ret) (hR : hp_S B D s0 S H locs) (hl : lv_has ls nL lv) {a : Nat} (hM : hp_M l B D s0 y bytes maxL ret1 fr lo mc ms (.ref a :: As) S Qc) (hr : ∃ cell : Cell, H[a]? = some cell ∧ cell.vm.isStatics = false ∧ s.vm.findClass y.cls = some cell.cls) (q1 : Cond.methodLink own index y ∈ lw_all) (q2 : Cond.instanceMethod y ∈ lw_all) (q3 : Cond.selects y.cls y y ∈ lw_all) (q4 : Cond.initialized y.cls ∈ lw_all) (q5 : Cond.code y bytes maxL ret1 ∈ lw_all) (hnf : hp_nf y As.length = true) (hroom : fr + 1 ≤ R.frames ∧ 8 + (maxL + 11) + lo ≤ R.locals) (hst : st0 = As.reverse ++ .ref a :: rest) (hsz : rest.length ≤ 4) (hdg : decode cc pc = .ok (.invokevirtual index, 3)) (hf : cells + mc ≤ R.cells ∧ slots + ms ≤ R.slots) :
    va_Run p l e R s m args below meth c H locs cells slots mc ms (F0 m pc ls st0) rest (Qc (Value.ref a :: As).toArray) (fun q => B < q) := by
  obtain ⟨n1, n2, n3⟩ := hp_nf_spec hnf
  unfold hp_M at hM
  obtain ⟨k1, k2, k3, k4, k5, k6⟩ := hp_cb (R := R) (mc := mc) (ms := ms) E q5 hroom
  exact va_runV (As := As) (rest := rest) (C := y.cls) ⟨E.x, E.b, E.ml, E.o, E.all⟩ hM ⟨⟨k1, k2, k3, k4, k5, k6, E.w q5, E.w q4, ⟨n1, n2⟩, n3, E.w q1⟩, E.w q2, E.w q3⟩ ⟨hp_blind, hr, fun U hU hW => ⟨rfl, hR.W E hU hW⟩⟩ rfl rfl hl.1 hst (hp_room hsz) hdg hf
theorem hp_vaS {S0 : hp_St} (hR0 : hp_S B D s0 S0 s.heap []) (hR : hp_S B D s0 S H locs) (hZ : st_Z S0 ≤ st_Z S) : va_S (fun q => B < q) s.heap H locs := ⟨by rw [hR0.1.1, hR.1.1]; omega, fun q hq hA => by
  have hq2 : q ≤ B := by omega
  rw [hR.2.1 q hq2]
  exact (hR0.2.1 q hq2).symm, hR.2.2⟩
theorem hp_recvS {adK adV : Nat → Nat} {i : Nat} (hE : hp_VS adK adV B s i) (hS : va_S (fun q => B < q) s.heap H locs) : ∃ cell : Cell, H[adK i]? = some cell ∧ cell.vm.isStatics = false ∧ s.vm.findClass "java/lang/String" = some cell.cls := by
  obtain ⟨cell, h1, h2, h3, -⟩ := hE.1.kept hS.2.1
  exact ⟨cell, h1, h2, h3⟩
end HPWS
theorem hp_rc {x : Nat} : (Value.ref x).category = 1 := rfl
theorem nf_J3_coder : hp_nf yJ3_coder 0 = true := by decide +kernel
theorem nf_J3_isLatin1 : hp_nf yJ3_isLatin1 0 = true := by decide +kernel
theorem nf_J3_length : hp_nf yJ3_length 0 = true := by decide +kernel
theorem nf_J3_charAt : hp_nf yJ3_charAt 1 = true := by decide +kernel
theorem nf_J4_charAt : hp_nf yJ4_charAt 2 = true := by decide +kernel
theorem nf_J3_checkIndex : hp_nf yJ3_checkIndex 2 = true := by decide +kernel
theorem nfs_J5_checkIndex : hp_nf yJ5_checkIndex 3 = true := by decide +kernel
section HPW2
variable {l : Launch} {B : Nat} {D : va_G} {s0 : State} {b0 : Nat} {tW : Nat} {adK adV : Nat → Nat}
set_option maxHeartbeats 4000000 in
theorem m_J3_coder (G : hp_G l B D s0 b0) (hD : hp_WD tW adK adV B s0) (i : Nat) (hi : i < 15) (Si : hp_St) : hp_M l B D s0 yJ3_coder cJ3_coder 1 (some .byte) 2 128 0 0 [.ref (adK i)] Si (hp_Qi B D s0 (fun r S' => S' = Si ∧ r = 0)) := by
  refine hp_start G (by decide +kernel) rfl rfl (lv := [(0, .ref (adK i))]) (by simp [lg_sl, hp_rc]) (by simp [lv_args]) ?_
  intro p e s m args below meth c E ls hl hR
  have hV := hp_vaS hR hR (Nat.le_refl _)
  obtain ⟨-, -, hX, hC, -⟩ := hD.to G.1 E.W hR.2.1
  refine va_gets E.x E.b hC hV E.o (E.w q426) (fun _ h => h) dJ3_coder_0 ?_
  refine hp_if_eq E dJ3_coder_3 (rfl : 3 + 3 = 6) (tgt := 13) (by decide) (fun hb => absurd hb (by decide)) (fun hb => ?_)
  refine lv_aload_n E.x E.b dJ3_coder_6 rfl (lv_at hl 0 rfl) ?_
  refine vk_getf E.x E.b (hX i hi).2.1 hV E.o (E.w q1762) (fun _ h => h) dJ3_coder_7 ?_
  refine hp_goto E (tgt := 14) dJ3_coder_10 (by decide) ?_
  exact W.widen (Nat.le_refl _) (Nat.le_refl _) (W.zret E.x E.b E.r (by rfl) (fun t ht hW => ⟨0, _, rfl, ⟨rfl, rfl⟩, hR.W E ht hW⟩) hR.2.2 dJ3_coder_14 E.lk)
set_option maxHeartbeats 4000000 in
theorem m_J3_isLatin1 (G : hp_G l B D s0 b0) (hD : hp_WD tW adK adV B s0) (i : Nat) (hi : i < 15) (Si : hp_St) : hp_M l B D s0 yJ3_isLatin1 cJ3_isLatin1 1 (some .boolean) 2 128 0 0 [.ref (adK i)] Si (hp_Qi B D s0 (fun r S' => S' = Si ∧ r = 1)) := by
  refine hp_start G (by decide +kernel) rfl rfl (lv := [(0, .ref (adK i))]) (by simp [lg_sl, hp_rc]) (by simp [lv_args]) ?_
  intro p e s m args below meth c E ls hl hR
  have hV := hp_vaS hR hR (Nat.le_refl _)
  obtain ⟨-, -, hX, hC, -⟩ := hD.to G.1 E.W hR.2.1
  refine va_gets E.x E.b hC hV E.o (E.w q426) (fun _ h => h) dJ3_isLatin1_0 ?_
  refine hp_if_eq E dJ3_isLatin1_3 (rfl : 3 + 3 = 6) (tgt := 17) (by decide) (fun hb => absurd hb (by decide)) (fun hb => ?_)
  refine lv_aload_n E.x E.b dJ3_isLatin1_6 rfl (lv_at hl 0 rfl) ?_
  refine vk_getf E.x E.b (hX i hi).2.1 hV E.o (E.w q1762) (fun _ h => h) dJ3_isLatin1_7 ?_
  refine hp_if_ne E dJ3_isLatin1_10 (rfl : 10 + 3 = 13) (tgt := 17) (by decide) (fun hb => ?_) (fun hb => absurd rfl hb)
  refine hp_iconst E (1 : Int32) (by decide) dJ3_isLatin1_13 (rfl : 13 + 1 = 14) ?_
  refine hp_goto E (tgt := 18) dJ3_isLatin1_14 (by decide) ?_
  exact hp_zret E hR (Or.inr rfl) ⟨rfl, rfl⟩ (Nat.le_of_ble_eq_true rfl) (Nat.le_of_ble_eq_true rfl) dJ3_isLatin1_18
set_option maxHeartbeats 4000000 in
theorem m_J3_length (G : hp_G l B D s0 b0) (hD : hp_WD tW adK adV B s0) (i : Nat) (hi : i < 15) (Si : hp_St) : hp_M l B D s0 yJ3_length cJ3_length 1 (some .int) 3 192 0 0 [.ref (adK i)] Si (hp_Qi B D s0 (fun r S' => S' = Si ∧ r = nI (hp_wl.getD i 0))) := by
  refine hp_start G (by decide +kernel) rfl rfl (lv := [(0, .ref (adK i))]) (by simp [lg_sl, hp_rc]) (by simp [lv_args]) ?_
  intro p e s m args below meth c E ls hl hR
  have hV := hp_vaS hR hR (Nat.le_refl _)
  have hDs := hD.to G.1 E.W hR.2.1
  have hX := hDs.2.2.1
  refine lv_aload_n E.x E.b dJ3_length_0 rfl (lv_at hl 0 rfl) ?_
  refine vk_getf E.x E.b (hX i hi).2.2.1 hV E.o (E.w q1761) (fun _ h => h) dJ3_length_1 ?_
  refine va_tlen E.x E.b (hX i hi).2.2.2 hV rfl dJ3_length_4 ?_
  refine lv_aload_n E.x E.b dJ3_length_5 rfl (lv_at hl 0 rfl) ?_
  refine hp_fi (hp_rVs E hR hl (m_J3_coder G hD i hi _) (hp_recvS (hX i hi) hV) q422 q423 q424 q83 q425 nf_J3_coder ⟨Nat.le_of_ble_eq_true rfl, Nat.le_of_ble_eq_true rfl⟩ (rest := [.int (Int32.ofNat (hp_wl.getD i 0))]) rfl (Nat.le_of_ble_eq_true rfl) dJ3_length_6 ⟨Nat.le_of_ble_eq_true rfl, Nat.le_of_ble_eq_true rfl⟩) hR (rfl : 6 + 3 = 9) (fun r S1 H locs hq hR => ?_)
  obtain ⟨hS, hr⟩ := hq
  rw [hS] at hR
  rw [hr]
  refine hp_ishr E dJ3_length_9 (rfl : 9 + 1 = 10) ?_
  refine hp_iret E hR ⟨rfl, ?_⟩ (Nat.le_of_ble_eq_true rfl) (Nat.le_of_ble_eq_true rfl) dJ3_length_10
  have h7 := hp_wc5 i hi
  show (nI (hp_wl.getD i 0) >>> ((0 : Int32) &&& 31)) = _
  have : ∀ j, j < 15 → (nI (hp_wl.getD j 0) >>> ((0 : Int32) &&& 31)) = nI (hp_wl.getD j 0) := by decide +kernel
  exact this i hi
set_option maxHeartbeats 4000000 in
theorem ms_J5_checkIndex (G : hp_G l B D s0 b0) (k n : Int32) (h0 : ¬ k < 0) (h1 : k < n) (v : Value) (hv : v = .null ∨ ∃ t, v = .ref t) (Si : hp_St) : hp_M l B D s0 yJ5_checkIndex cJ5_checkIndex 3 (some .int) 2 128 0 0 [.int k, .int n, v] Si (hp_Qi B D s0 (fun r S' => S' = Si)) := by
  have hvc : v.category = 1 := by rcases hv with rfl | ⟨t, rfl⟩ <;> rfl
  refine hp_start G (by decide +kernel) rfl rfl (lv := [(0, .int k), (1, .int n), (2, v)]) (by simp [lg_sl, hp_ci, hvc]) (by simp [lv_args, hp_ci, hvc]) ?_
  intro p e s m args below meth c E ls hl hR
  refine hp_iload_n E hl 0 rfl 0 rfl dJ5_checkIndex_0 (rfl : 0 + 1 = 1) ?_
  refine hp_if_lt E dJ5_checkIndex_1 (rfl : 1 + 3 = 4) (tgt := 9) (by decide) (fun hb => absurd hb h0) (fun hb => ?_)
  refine hp_iload_n E hl 0 rfl 0 rfl dJ5_checkIndex_4 (rfl : 4 + 1 = 5) ?_
  refine hp_iload_n E hl 1 rfl 1 rfl dJ5_checkIndex_5 (rfl : 5 + 1 = 6) ?_
  refine hp_icmp_lt E dJ5_checkIndex_6 (rfl : 6 + 3 = 9) (tgt := 16) (by decide) (fun hb => ?_) (fun hb => absurd h1 hb)
  refine hp_iload_n E hl 0 rfl 0 rfl dJ5_checkIndex_16 (rfl : 16 + 1 = 17) ?_
  exact hp_iret E hR rfl (Nat.le_of_ble_eq_true rfl) (Nat.le_of_ble_eq_true rfl) dJ5_checkIndex_17
set_option maxHeartbeats 4000000 in
theorem m_J3_checkIndex (G : hp_G l B D s0 b0) (hD : hp_WD tW adK adV B s0) (k n : Int32) (h0 : ¬ k < 0) (h1 : k < n) (Si : hp_St) : hp_M l B D s0 yJ3_checkIndex cJ3_checkIndex 2 none 3 192 0 0 [.int k, .int n] Si (hp_Qv B D s0 (fun S' => S' = Si)) := by
  refine hp_start G (by decide +kernel) rfl rfl (lv := [(0, .int k), (1, .int n)]) (by simp [lg_sl, hp_ci]) (by simp [lv_args, hp_ci]) ?_
  intro p e s m args below meth c E ls hl hR
  have hV := hp_vaS hR hR (Nat.le_refl _)
  have hDs := hD.to G.1 E.W hR.2.1
  refine hp_iload_n E hl 0 rfl 0 rfl dJ3_checkIndex_0 (rfl : 0 + 1 = 1) ?_
  refine hp_iload_n E hl 1 rfl 1 rfl dJ3_checkIndex_1 (rfl : 1 + 1 = 2) ?_
  have hz : ∃ v : Value, (v = .null ∨ ∃ t, v = .ref t) ∧ va_Z "jdk/internal/util/Preconditions" "SIOOBE_FORMATTER" "Ljava/util/function/BiFunction;" v (fun q => B < q) s s.heap := by
    rcases hDs.2.2.2.2 with h | ⟨t, h⟩
    · exact ⟨_, Or.inl rfl, h⟩
    · exact ⟨_, Or.inr ⟨t, rfl⟩, h⟩
  obtain ⟨v, hv, hZ⟩ := hz
  refine va_gets E.x E.b hZ hV E.o (E.w q442) (fun _ h => h) dJ3_checkIndex_2 ?_
  refine hp_fi (hp_rS E hR hl (ms_J5_checkIndex G k n h0 h1 v hv _) q444 q445 q85 q446 nfs_J5_checkIndex ⟨Nat.le_of_ble_eq_true rfl, Nat.le_of_ble_eq_true rfl⟩ (rest := []) rfl (Nat.le_of_ble_eq_true rfl) dJ3_checkIndex_5 ⟨Nat.le_of_ble_eq_true rfl, Nat.le_of_ble_eq_true rfl⟩) hR (rfl : 5 + 3 = 8) (fun r S1 H locs hq hR => ?_)
  rw [hq] at hR
  refine hp_pop E rfl dJ3_checkIndex_8 (rfl : 8 + 1 = 9) ?_
  exact hp_vret E hR rfl (Nat.le_of_ble_eq_true rfl) (Nat.le_of_ble_eq_true rfl) dJ3_checkIndex_9
set_option maxHeartbeats 4000000 in
theorem m_J4_charAt (G : hp_G l B D s0 b0) (hD : hp_WD tW adK adV B s0) (i k : Nat) (hi : i < 15) (hk : k < hp_wl.getD i 0) (Si : hp_St) : hp_M l B D s0 yJ4_charAt cJ4_charAt 2 (some .char) 4 256 0 0 [.ref (adV i), .int (nI k)] Si (hp_Qi B D s0 (fun r S' => S' = Si ∧ r = (hp_words.getD i []).getD k 0)) := by
  refine hp_start G (by decide +kernel) rfl rfl (lv := [(0, .ref (adV i)), (1, .int (nI k))]) (by simp [lg_sl, hp_ci, hp_rc]) (by simp [lv_args, hp_ci, hp_rc]) ?_
  intro p e s m args below meth c E ls hl hR
  have hV := hp_vaS hR hR (Nat.le_refl _)
  have hDs := hD.to G.1 E.W hR.2.1
  have hX := hDs.2.2.1
  have h7 := hp_wc5 i hi
  have hkb : (((hp_words.getD i []).getD k 0 &&& 255).toUInt32 % 65536).toInt32 = (hp_words.getD i []).getD k 0 := by
    refine hp_wc6 i hi _ ?_
    have hlt : k < (hp_words.getD i []).length := by omega
    exact hp_gm hlt
  refine hp_iload_n E hl 1 rfl 1 rfl dJ4_charAt_0 (rfl : 0 + 1 = 1) ?_
  refine lv_aload_n E.x E.b dJ4_charAt_1 rfl (lv_at hl 0 rfl) ?_
  refine va_tlen E.x E.b (hX i hi).2.2.2 hV rfl dJ4_charAt_2 ?_
  refine hp_fv (hp_rS E hR hl (m_J3_checkIndex G hD (nI k) (nI (hp_wl.getD i 0)) (nI_pos (by omega)) (nI_lt hk (by omega)) _) q439 q440 q83 q441 nf_J3_checkIndex ⟨Nat.le_of_ble_eq_true rfl, Nat.le_of_ble_eq_true rfl⟩ (rest := []) rfl (Nat.le_of_ble_eq_true rfl) dJ4_charAt_3 ⟨Nat.le_of_ble_eq_true rfl, Nat.le_of_ble_eq_true rfl⟩) hR (rfl : 3 + 3 = 6) (fun S1 H locs hq hR1 => ?_)
  rw [hq] at hR1
  have hV1 := hp_vaS hR hR1 (Nat.le_refl _)
  refine lv_aload_n E.x E.b dJ4_charAt_6 rfl (lv_at hl 0 rfl) ?_
  refine hp_iload_n E hl 1 rfl 1 rfl dJ4_charAt_7 (rfl : 7 + 1 = 8) ?_
  refine va_tb E.x E.b (hX i hi).2.2.2 hV1 (vp_in_nI hk (by omega)) (v := .int ((hp_words.getD i []).getD k 0)) (by rw [nI_clamp (by omega)]) dJ4_charAt_8 ?_
  refine hp_sipush E (255 : Int32) (by decide) dJ4_charAt_9 (rfl : 9 + 3 = 12) ?_
  refine hp_iand E dJ4_charAt_12 (rfl : 12 + 1 = 13) ?_
  refine lv_i2c E.x E.b dJ4_charAt_13 hkb ?_
  refine W.widen (Nat.le_refl _) (Nat.le_refl _) (W.zret E.x E.b E.r ?_ (fun t ht hW => ⟨_, _, rfl, ⟨rfl, rfl⟩, hR1.W E ht hW⟩) hR1.2.2 dJ4_charAt_14 E.lk)
  have hn : ∀ j, j < 15 → ∀ b ∈ hp_words.getD j [], narrow .char (.int b) = .int b := by decide +kernel
  refine hn i hi _ ?_
  have hlt : k < (hp_words.getD i []).length := by omega
  exact hp_gm hlt
set_option maxHeartbeats 4000000 in
theorem m_J3_charAt (G : hp_G l B D s0 b0) (hD : hp_WD tW adK adV B s0) (i k : Nat) (hi : i < 15) (hk : k < hp_wl.getD i 0) (Si : hp_St) : hp_M l B D s0 yJ3_charAt cJ3_charAt 2 (some .char) 5 320 0 0 [.ref (adK i), .int (nI k)] Si (hp_Qi B D s0 (fun r S' => S' = Si ∧ r = (hp_words.getD i []).getD k 0)) := by
  refine hp_start G (by decide +kernel) rfl rfl (lv := [(0, .ref (adK i)), (1, .int (nI k))]) (by simp [lg_sl, hp_ci, hp_rc]) (by simp [lv_args, hp_ci, hp_rc]) ?_
  intro p e s m args below meth c E ls hl hR
  have hV := hp_vaS hR hR (Nat.le_refl _)
  have hDs := hD.to G.1 E.W hR.2.1
  have hX := hDs.2.2.1
  refine lv_aload_n E.x E.b dJ3_charAt_0 rfl (lv_at hl 0 rfl) ?_
  refine hp_fi (hp_rVs E hR hl (m_J3_isLatin1 G hD i hi _) (hp_recvS (hX i hi) hV) q432 q433 q434 q83 q435 nf_J3_isLatin1 ⟨Nat.le_of_ble_eq_true rfl, Nat.le_of_ble_eq_true rfl⟩ (rest := []) rfl (Nat.le_of_ble_eq_true rfl) dJ3_charAt_1 ⟨Nat.le_of_ble_eq_true rfl, Nat.le_of_ble_eq_true rfl⟩) hR (rfl : 1 + 3 = 4) (fun r S1 H locs hq hR1 => ?_)
  obtain ⟨hS, hr⟩ := hq
  rw [hS] at hR1
  rw [hr]
  have hV1 := hp_vaS hR hR1 (Nat.le_refl _)
  refine hp_if_eq E dJ3_charAt_4 (rfl : 4 + 3 = 7) (tgt := 16) (by decide) (fun hb => absurd hb (by decide)) (fun hb => ?_)
  refine lv_aload_n E.x E.b dJ3_charAt_7 rfl (lv_at hl 0 rfl) ?_
  refine vk_getf E.x E.b (hX i hi).2.2.1 hV1 E.o (E.w q1761) (fun _ h => h) dJ3_charAt_8 ?_
  refine hp_iload_n E hl 1 rfl 1 rfl dJ3_charAt_11 (rfl : 11 + 1 = 12) ?_
  refine hp_fi (hp_rS E hR1 hl (m_J4_charAt G hD i k hi hk _) q436 q437 q84 q438 nf_J4_charAt ⟨Nat.le_of_ble_eq_true rfl, Nat.le_of_ble_eq_true rfl⟩ (rest := []) rfl (Nat.le_of_ble_eq_true rfl) dJ3_charAt_12 ⟨Nat.le_of_ble_eq_true rfl, Nat.le_of_ble_eq_true rfl⟩) hR1 (rfl : 12 + 3 = 15) (fun r2 S2 H locs hq hR2 => ?_)
  obtain ⟨hS2, hr2⟩ := hq
  rw [hS2] at hR2
  refine W.widen (Nat.le_refl _) (Nat.le_refl _) (W.zret E.x E.b E.r ?_ (fun t ht hW => ⟨_, _, rfl, ⟨rfl, hr2⟩, hR2.W E ht hW⟩) hR2.2.2 dJ3_charAt_15 E.lk)
  rw [hr2]
  have hn : ∀ j, j < 15 → ∀ b ∈ hp_words.getD j [], narrow .char (.int b) = .int b := by decide +kernel
  refine hn i hi _ ?_
  have h7 := hp_wc5 i hi
  have hlt : k < (hp_words.getD i []).length := by omega
  exact hp_gm hlt
end HPW2
