set_option maxRecDepth 100000
section HPSW
variable {p : Program} {l : Launch} {e : Env} {R : Room} {s : State} {m : MethodId} {args : Array Value} {below : List Frame} {meth : Method} {c : Code} {H : Heap} {locs : List Loc} {cells slots : Nat} {Q : State → Prop}
variable {B : Nat} {D : va_G} {s0 : State} {S : hp_St} {cc : ByteArray} {own nm : String} {nL : Nat} {ret : Option FieldType} {pc pc' : Nat} {ls : Array Slot} {rest : List Value} {lv : List (Nat × Value)}
/-- invokestatic of a method with handlers that doesn't throw -/
theorem hp_rSW {y : MethodName} {bytes : ByteArray} {maxL fr lo mc ms index : Nat} {ret1 : Option FieldType} {hh : List (Nat × Nat × Nat × Nat)} {As st0 : List Value} {Qc : Array Value → State → Outcome → State → Prop} (E : hp_E B D s0 p s m args meth c cc own nm nL ret) (hR : hp_S B D s0 S H locs) (hl : lv_has ls nL lv) (hM : hp_MW l B D s0 y bytes maxL ret1 hh fr lo mc ms As S Qc) (q1 : Cond.methodLink own index y ∈ lw_all) (q2 : Cond.static y ∈ lw_all) (q4 : Cond.initialized y.cls ∈ lw_all) (q5 : Cond.codeWith y bytes maxL ret1 hh ∈ lw_all) (hnf : hp_nf y As.length = true) (hroom : fr + 1 ≤ R.frames ∧ 8 + (maxL + 11) + lo ≤ R.locals) (hst : st0 = As.reverse ++ rest) (hsz : rest.length ≤ 4) (hdg : decode cc pc = .ok (.invokestatic index, 3)) (hf : cells + mc ≤ R.cells ∧ slots + ms ≤ R.slots) :
    va_Run p l e R s m args below meth c H locs cells slots mc ms (F0 m pc ls st0) rest (Qc As.toArray) (fun q => B < q) := by
  obtain ⟨n1, n2, n3⟩ := hp_nf_spec hnf
  unfold hp_MW at hM
  exact vx_runSW (As := As) (rest := rest) ⟨E.x, E.b, E.ml, E.o, E.all⟩ hM ⟨⟨rfl, rfl, hroom.1, hroom.2, fun w hw => by rw [List.mem_singleton.mp hw]; exact hp_ws (E.w q5) (List.mem_filter.mp q5).2, List.mem_singleton.mpr rfl⟩, E.w q5, E.w q4, ⟨n1, n2⟩, n3, E.w q1, E.w q2⟩ ⟨hp_blind, fun U hU hW => ⟨rfl, hR.W E hU hW⟩⟩ rfl rfl hl.1 hst (hp_room hsz) hdg hf
end HPSW
theorem hd_X7 : ∀ j, j < 58 → defaultValue (tyX7 j) = if hp_ir (6 + 1) j = true then .null else .int 0 := by
  intro j hj
  rcases (by omega : j = 0 ∨ j = 1 ∨ j = 2 ∨ j = 3 ∨ j = 4 ∨ j = 5 ∨ j = 6 ∨ j = 7 ∨ j = 8 ∨ j = 9 ∨ j = 10 ∨ j = 11 ∨ j = 12 ∨ j = 13 ∨ j = 14 ∨ j = 15 ∨ j = 16 ∨ j = 17 ∨ j = 18 ∨ j = 19 ∨ j = 20 ∨ j = 21 ∨ j = 22 ∨ j = 23 ∨ j = 24 ∨ j = 25 ∨ j = 26 ∨ j = 27 ∨ j = 28 ∨ j = 29 ∨ j = 30 ∨ j = 31 ∨ j = 32 ∨ j = 33 ∨ j = 34 ∨ j = 35 ∨ j = 36 ∨ j = 37 ∨ j = 38 ∨ j = 39 ∨ j = 40 ∨ j = 41 ∨ j = 42 ∨ j = 43 ∨ j = 44 ∨ j = 45 ∨ j = 46 ∨ j = 47 ∨ j = 48 ∨ j = 49 ∨ j = 50 ∨ j = 51 ∨ j = 52 ∨ j = 53 ∨ j = 54 ∨ j = 55 ∨ j = 56 ∨ j = 57) with rfl | rfl | rfl | rfl | rfl | rfl | rfl | rfl | rfl | rfl | rfl | rfl | rfl | rfl | rfl | rfl | rfl | rfl | rfl | rfl | rfl | rfl | rfl | rfl | rfl | rfl | rfl | rfl | rfl | rfl | rfl | rfl | rfl | rfl | rfl | rfl | rfl | rfl | rfl | rfl | rfl | rfl | rfl | rfl | rfl | rfl | rfl | rfl | rfl | rfl | rfl | rfl | rfl | rfl | rfl | rfl | rfl | rfl <;> rfl
def wb_L_law_1216 (b L : Nat) (xs : Nat → Int32) (r1 : Nat) (r2 : Nat) (r3 : Nat) (v4 : Int32) (S : hp_St) (K23 : Int32 → hp_St → Prop) (Q : Prop) : Prop := K23 (v4 + (6 : Int32)) S
def wb_L_law_610 (b L : Nat) (xs : Nat → Int32) (r1 : Nat) (r2 : Nat) (r3 : Nat) (v4 : Int32) (t0 : Int32) (t1 : Nat) (t2 : Int32) (t3 : Int32) (t4 : Int32) (S : hp_St) (K23 : Int32 → hp_St → Prop) (Q : Prop) : Prop := (st_C S t1 = 7) ∧ wp_X7_note t1 t2 t3 t4 S (fun z61002 S61003 => hp_mono S S61003 → (((t0 = z61002) → wb_L_law_1216 b L xs r1 r2 r3 v4 S61003 K23 Q) ∧ ((¬ (t0 = z61002)) → False)))
def wb_L_law_580 (b L : Nat) (xs : Nat → Int32) (r1 : Nat) (r2 : Nat) (r3 : Nat) (v4 : Int32) (t0 : Nat) (t1 : Int32) (t2 : Int32) (t3 : Int32) (S : hp_St) (K23 : Int32 → hp_St → Prop) (Q : Prop) : Prop := (st_C S t0 = 1) ∧ wp_X1_note t0 t1 t2 t3 S (fun z58002 S58003 => hp_mono S S58003 → (vp_in (v4 + (1 : Int32)) L) ∧ (vp_in (v4 + (2 : Int32)) L) ∧ (vp_in (v4 + (3 : Int32)) L) ∧ ((((xs (v4 + (3 : Int32)).toNatClampNeg) = 0) → wb_L_law_610 b L xs r1 r2 r3 v4 z58002 r2 (xs (v4 + (1 : Int32)).toNatClampNeg) (xs (v4 + (2 : Int32)).toNatClampNeg) (0 : Int32) S58003 K23 Q) ∧ ((¬ ((xs (v4 + (3 : Int32)).toNatClampNeg) = 0)) → wb_L_law_610 b L xs r1 r2 r3 v4 z58002 r2 (xs (v4 + (1 : Int32)).toNatClampNeg) (xs (v4 + (2 : Int32)).toNatClampNeg) (1 : Int32) S58003 K23 Q)))
def wb_L_law_1163 (b L : Nat) (xs : Nat → Int32) (r1 : Nat) (r2 : Nat) (r3 : Nat) (v4 : Int32) (S : hp_St) (K23 : Int32 → hp_St → Prop) (Q : Prop) : Prop := wb_L_law_1216 b L xs r1 r2 r3 v4 S K23 Q
def wb_L_law_23 (b L : Nat) (xs : Nat → Int32) (r1 : Nat) (r2 : Nat) (r3 : Nat) (v4 : Int32) (S : hp_St) (K23 : Int32 → hp_St → Prop) (Q : Prop) : Prop := (((v4 ≤ ((nI L) - (6 : Int32))) → (vp_in v4 L) ∧ ((((xs v4.toNatClampNeg) &&& (31 : Int32)) = (0 : Int32) → (vp_in (v4 + (1 : Int32)) L) ∧ (vp_in (v4 + (2 : Int32)) L) ∧ (vp_in (v4 + (3 : Int32)) L) ∧ (vp_in (v4 + (4 : Int32)) L) ∧ (vp_in (v4 + (5 : Int32)) L) ∧ (st_C S r1 = 1) ∧ wp_X1_feed r1 (xs (v4 + (1 : Int32)).toNatClampNeg) (xs (v4 + (2 : Int32)).toNatClampNeg) (xs (v4 + (3 : Int32)).toNatClampNeg) (xs (v4 + (4 : Int32)).toNatClampNeg) (xs (v4 + (5 : Int32)).toNatClampNeg) S (fun z2308 S2309 => hp_mono S S2309 → (vp_in (v4 + (1 : Int32)) L) ∧ (vp_in (v4 + (2 : Int32)) L) ∧ (vp_in (v4 + (3 : Int32)) L) ∧ (vp_in (v4 + (4 : Int32)) L) ∧ (vp_in (v4 + (5 : Int32)) L) ∧ (st_C S2309 r2 = 7) ∧ wp_X7_feed r2 (xs (v4 + (1 : Int32)).toNatClampNeg) (xs (v4 + (2 : Int32)).toNatClampNeg) (xs (v4 + (3 : Int32)).toNatClampNeg) (xs (v4 + (4 : Int32)).toNatClampNeg) (xs (v4 + (5 : Int32)).toNatClampNeg) S2309 (fun z2317 S2318 => hp_mono S2309 S2318 → (((z2308 = z2317) → wb_L_law_1216 b L xs r1 r2 r3 v4 S2318 K23 Q) ∧ ((¬ (z2308 = z2317)) → False))))) ∧ (((xs v4.toNatClampNeg) &&& (31 : Int32)) = (1 : Int32) → (vp_in (v4 + (1 : Int32)) L) ∧ (st_C S r1 = 1) ∧ wp_X1_acts r1 (xs (v4 + (1 : Int32)).toNatClampNeg) S (fun z2322 S2323 => hp_mono S S2323 → (vp_in (v4 + (1 : Int32)) L) ∧ (st_C S2323 r2 = 7) ∧ wp_X7_acts r2 (xs (v4 + (1 : Int32)).toNatClampNeg) S2323 (fun z2327 S2328 => hp_mono S2323 S2328 → (((z2322 = z2327) → wb_L_law_1216 b L xs r1 r2 r3 v4 S2328 K23 Q) ∧ ((¬ (z2322 = z2327)) → False))))) ∧ (((xs v4.toNatClampNeg) &&& (31 : Int32)) = (2 : Int32) → (vp_in (v4 + (1 : Int32)) L) ∧ (st_C S r1 = 1) ∧ wp_X1_fault r1 (xs (v4 + (1 : Int32)).toNatClampNeg) S (fun z2332 => (vp_in (v4 + (1 : Int32)) L) ∧ (st_C S r2 = 7) ∧ wp_X7_fault r2 (xs (v4 + (1 : Int32)).toNatClampNeg) S (fun z2335 S2336 => hp_mono S S2336 → (((z2332 = z2335) → wb_L_law_1216 b L xs r1 r2 r3 v4 S2336 K23 Q) ∧ ((¬ (z2332 = z2335)) → False))))) ∧ (((xs v4.toNatClampNeg) &&& (31 : Int32)) = (3 : Int32) → (vp_in (v4 + (1 : Int32)) L) ∧ (st_C S r1 = 1) ∧ wp_X1_halves r1 (xs (v4 + (1 : Int32)).toNatClampNeg) S (fun z2340 S2341 => hp_mono S S2341 → (vp_in (v4 + (1 : Int32)) L) ∧ (st_C S2341 r2 = 7) ∧ wp_X7_halves r2 (xs (v4 + (1 : Int32)).toNatClampNeg) S2341 (fun z2345 S2346 => hp_mono S2341 S2346 → (((z2340 = z2345) → wb_L_law_1216 b L xs r1 r2 r3 v4 S2346 K23 Q) ∧ ((¬ (z2340 = z2345)) → False))))) ∧ (((xs v4.toNatClampNeg) &&& (31 : Int32)) = (4 : Int32) → (vp_in (v4 + (1 : Int32)) L) ∧ (vp_in (v4 + (2 : Int32)) L) ∧ (st_C S r1 = 1) ∧ wp_X1_life r1 (xs (v4 + (1 : Int32)).toNatClampNeg) (xs (v4 + (2 : Int32)).toNatClampNeg) S (fun z2351 S2352 => hp_mono S S2352 → (vp_in (v4 + (1 : Int32)) L) ∧ (vp_in (v4 + (2 : Int32)) L) ∧ (st_C S2352 r2 = 7) ∧ wp_X7_life r2 (xs (v4 + (1 : Int32)).toNatClampNeg) (xs (v4 + (2 : Int32)).toNatClampNeg) S2352 (fun z2357 S2358 => hp_mono S2352 S2358 → (((z2351 = z2357) → wb_L_law_1216 b L xs r1 r2 r3 v4 S2358 K23 Q) ∧ ((¬ (z2351 = z2357)) → False))))) ∧ (((xs v4.toNatClampNeg) &&& (31 : Int32)) = (5 : Int32) → (vp_in (v4 + (1 : Int32)) L) ∧ (vp_in (v4 + (2 : Int32)) L) ∧ (st_C S r1 = 1) ∧ wp_X1_asks r1 (xs (v4 + (1 : Int32)).toNatClampNeg) (xs (v4 + (2 : Int32)).toNatClampNeg) S (fun z2363 => (vp_in (v4 + (1 : Int32)) L) ∧ (vp_in (v4 + (2 : Int32)) L) ∧ (st_C S r2 = 7) ∧ wp_X7_asks r2 (xs (v4 + (1 : Int32)).toNatClampNeg) (xs (v4 + (2 : Int32)).toNatClampNeg) S (fun z2367 S2368 => hp_mono S S2368 → (((z2363 = z2367) → wb_L_law_1216 b L xs r1 r2 r3 v4 S2368 K23 Q) ∧ ((¬ (z2363 = z2367)) → False))))) ∧ (((xs v4.toNatClampNeg) &&& (31 : Int32)) = (6 : Int32) → (vp_in (v4 + (1 : Int32)) L) ∧ (vp_in (v4 + (2 : Int32)) L) ∧ (vp_in (v4 + (3 : Int32)) L) ∧ (vp_in (v4 + (4 : Int32)) L) ∧ (st_C S r1 = 1) ∧ wp_X1_rent r1 (xs (v4 + (1 : Int32)).toNatClampNeg) (xs (v4 + (2 : Int32)).toNatClampNeg) (xs (v4 + (3 : Int32)).toNatClampNeg) (xs (v4 + (4 : Int32)).toNatClampNeg) S (fun z2375 S2376 => hp_mono S S2376 → (vp_in (v4 + (1 : Int32)) L) ∧ (vp_in (v4 + (2 : Int32)) L) ∧ (vp_in (v4 + (3 : Int32)) L) ∧ (vp_in (v4 + (4 : Int32)) L) ∧ (st_C S2376 r2 = 7) ∧ wp_X7_rent r2 (xs (v4 + (1 : Int32)).toNatClampNeg) (xs (v4 + (2 : Int32)).toNatClampNeg) (xs (v4 + (3 : Int32)).toNatClampNeg) (xs (v4 + (4 : Int32)).toNatClampNeg) S2376 (fun z2383 S2384 => hp_mono S2376 S2384 → (((z2375 = z2383) → wb_L_law_1216 b L xs r1 r2 r3 v4 S2384 K23 Q) ∧ ((¬ (z2375 = z2383)) → False))))) ∧ (((xs v4.toNatClampNeg) &&& (31 : Int32)) = (7 : Int32) → (vp_in (v4 + (1 : Int32)) L) ∧ (vp_in (v4 + (2 : Int32)) L) ∧ (vp_in (v4 + (3 : Int32)) L) ∧ (vp_in (v4 + (4 : Int32)) L) ∧ (st_C S r1 = 1) ∧ wp_X1_sell r1 (xs (v4 + (1 : Int32)).toNatClampNeg) (xs (v4 + (2 : Int32)).toNatClampNeg) (xs (v4 + (3 : Int32)).toNatClampNeg) (xs (v4 + (4 : Int32)).toNatClampNeg) S (fun z2391 S2392 => hp_mono S S2392 → (vp_in (v4 + (1 : Int32)) L) ∧ (vp_in (v4 + (2 : Int32)) L) ∧ (vp_in (v4 + (3 : Int32)) L) ∧ (vp_in (v4 + (4 : Int32)) L) ∧ (st_C S2392 r2 = 7) ∧ wp_X7_sell r2 (xs (v4 + (1 : Int32)).toNatClampNeg) (xs (v4 + (2 : Int32)).toNatClampNeg) (xs (v4 + (3 : Int32)).toNatClampNeg) (xs (v4 + (4 : Int32)).toNatClampNeg) S2392 (fun z2399 S2400 => hp_mono S2392 S2400 → (((z2391 = z2399) → wb_L_law_1216 b L xs r1 r2 r3 v4 S2400 K23 Q) ∧ ((¬ (z2391 = z2399)) → False))))) ∧ (((xs v4.toNatClampNeg) &&& (31 : Int32)) = (8 : Int32) → (vp_in (v4 + (1 : Int32)) L) ∧ (vp_in (v4 + (2 : Int32)) L) ∧ (vp_in (v4 + (3 : Int32)) L) ∧ (st_C S r1 = 1) ∧ wp_X1_parts r1 (xs (v4 + (1 : Int32)).toNatClampNeg) (xs (v4 + (2 : Int32)).toNatClampNeg) (xs (v4 + (3 : Int32)).toNatClampNeg) S (fun z2406 => (vp_in (v4 + (1 : Int32)) L) ∧ (vp_in (v4 + (2 : Int32)) L) ∧ (vp_in (v4 + (3 : Int32)) L) ∧ (st_C S r2 = 7) ∧ wp_X7_parts r2 (xs (v4 + (1 : Int32)).toNatClampNeg) (xs (v4 + (2 : Int32)).toNatClampNeg) (xs (v4 + (3 : Int32)).toNatClampNeg) S (fun z2411 S2412 => hp_mono S S2412 → (((z2406 = z2411) → wb_L_law_1216 b L xs r1 r2 r3 v4 S2412 K23 Q) ∧ ((¬ (z2406 = z2411)) → False))))) ∧ (((xs v4.toNatClampNeg) &&& (31 : Int32)) = (9 : Int32) → (vp_in (v4 + (1 : Int32)) L) ∧ (vp_in (v4 + (2 : Int32)) L) ∧ (vp_in (v4 + (3 : Int32)) L) ∧ ((((xs (v4 + (3 : Int32)).toNatClampNeg) = 0) → wb_L_law_580 b L xs r1 r2 r3 v4 r1 (xs (v4 + (1 : Int32)).toNatClampNeg) (xs (v4 + (2 : Int32)).toNatClampNeg) (0 : Int32) S K23 Q) ∧ ((¬ ((xs (v4 + (3 : Int32)).toNatClampNeg) = 0)) → wb_L_law_580 b L xs r1 r2 r3 v4 r1 (xs (v4 + (1 : Int32)).toNatClampNeg) (xs (v4 + (2 : Int32)).toNatClampNeg) (1 : Int32) S K23 Q))) ∧ (((xs v4.toNatClampNeg) &&& (31 : Int32)) = (10 : Int32) → (vp_in (v4 + (1 : Int32)) L) ∧ (st_C S r1 = 1) ∧ wp_X1_strike r1 (xs (v4 + (1 : Int32)).toNatClampNeg) S (fun z2419 S2420 => hp_mono S S2420 → (vp_in (v4 + (1 : Int32)) L) ∧ (st_C S2420 r2 = 7) ∧ wp_X7_strike r2 (xs (v4 + (1 : Int32)).toNatClampNeg) S2420 (fun z2424 S2425 => hp_mono S2420 S2425 → (((z2419 = z2424) → wb_L_law_1216 b L xs r1 r2 r3 v4 S2425 K23 Q) ∧ ((¬ (z2419 = z2424)) → False))))) ∧ (((xs v4.toNatClampNeg) &&& (31 : Int32)) = (11 : Int32) → (vp_in (v4 + (1 : Int32)) L) ∧ (vp_in (v4 + (2 : Int32)) L) ∧ (st_C S r1 = 1) ∧ wp_X1_dead r1 (xs (v4 + (1 : Int32)).toNatClampNeg) (xs (v4 + (2 : Int32)).toNatClampNeg) S (fun z2430 S2431 => hp_mono S S2431 → (vp_in (v4 + (1 : Int32)) L) ∧ (vp_in (v4 + (2 : Int32)) L) ∧ (st_C S2431 r2 = 7) ∧ wp_X7_dead r2 (xs (v4 + (1 : Int32)).toNatClampNeg) (xs (v4 + (2 : Int32)).toNatClampNeg) S2431 (fun z2436 S2437 => hp_mono S2431 S2437 → (((z2430 = z2436) → wb_L_law_1216 b L xs r1 r2 r3 v4 S2437 K23 Q) ∧ ((¬ (z2430 = z2436)) → False))))) ∧ (((xs v4.toNatClampNeg) &&& (31 : Int32)) = (12 : Int32) → (vp_in (v4 + (1 : Int32)) L) ∧ (vp_in (v4 + (2 : Int32)) L) ∧ (st_C S r1 = 1) ∧ wp_X1_holds r1 (xs (v4 + (1 : Int32)).toNatClampNeg) (xs (v4 + (2 : Int32)).toNatClampNeg) S (fun z2442 S2443 => hp_mono S S2443 → (vp_in (v4 + (1 : Int32)) L) ∧ (vp_in (v4 + (2 : Int32)) L) ∧ (st_C S2443 r2 = 7) ∧ wp_X7_holds r2 (xs (v4 + (1 : Int32)).toNatClampNeg) (xs (v4 + (2 : Int32)).toNatClampNeg) S2443 (fun z2448 S2449 => hp_mono S2443 S2449 → (((z2442 = z2448) → wb_L_law_1216 b L xs r1 r2 r3 v4 S2449 K23 Q) ∧ ((¬ (z2442 = z2448)) → False))))) ∧ (((xs v4.toNatClampNeg) &&& (31 : Int32)) = (13 : Int32) → (vp_in (v4 + (1 : Int32)) L) ∧ (vp_in (v4 + (2 : Int32)) L) ∧ (vp_in (v4 + (3 : Int32)) L) ∧ (st_C S r1 = 1) ∧ wp_X1_paid r1 (xs (v4 + (1 : Int32)).toNatClampNeg) (xs (v4 + (2 : Int32)).toNatClampNeg) (xs (v4 + (3 : Int32)).toNatClampNeg) S (fun z2455 S2456 => hp_mono S S2456 → (vp_in (v4 + (1 : Int32)) L) ∧ (vp_in (v4 + (2 : Int32)) L) ∧ (vp_in (v4 + (3 : Int32)) L) ∧ (st_C S2456 r2 = 7) ∧ wp_X7_paid r2 (xs (v4 + (1 : Int32)).toNatClampNeg) (xs (v4 + (2 : Int32)).toNatClampNeg) (xs (v4 + (3 : Int32)).toNatClampNeg) S2456 (fun z2462 S2463 => hp_mono S2456 S2463 → (((z2455 = z2462) → wb_L_law_1216 b L xs r1 r2 r3 v4 S2463 K23 Q) ∧ ((¬ (z2455 = z2462)) → False))))) ∧ (((xs v4.toNatClampNeg) &&& (31 : Int32)) = (14 : Int32) → (vp_in (v4 + (1 : Int32)) L) ∧ (vp_in (v4 + (2 : Int32)) L) ∧ (st_C S r1 = 1) ∧ wp_X1_got r1 (xs (v4 + (1 : Int32)).toNatClampNeg) (xs (v4 + (2 : Int32)).toNatClampNeg) S (fun z2468 S2469 => hp_mono S S2469 → (vp_in (v4 + (1 : Int32)) L) ∧ (vp_in (v4 + (2 : Int32)) L) ∧ (st_C S2469 r2 = 7) ∧ wp_X7_got r2 (xs (v4 + (1 : Int32)).toNatClampNeg) (xs (v4 + (2 : Int32)).toNatClampNeg) S2469 (fun z2474 S2475 => hp_mono S2469 S2475 → (((z2468 = z2474) → wb_L_law_1216 b L xs r1 r2 r3 v4 S2475 K23 Q) ∧ ((¬ (z2468 = z2474)) → False))))) ∧ (((xs v4.toNatClampNeg) &&& (31 : Int32)) = (15 : Int32) → (vp_in (v4 + (1 : Int32)) L) ∧ (vp_in (v4 + (2 : Int32)) L) ∧ (st_C S r1 = 1) ∧ wp_X1_owed r1 (xs (v4 + (1 : Int32)).toNatClampNeg) (xs (v4 + (2 : Int32)).toNatClampNeg) S (fun z2480 S2481 => hp_mono S S2481 → (vp_in (v4 + (1 : Int32)) L) ∧ (vp_in (v4 + (2 : Int32)) L) ∧ (st_C S2481 r2 = 7) ∧ wp_X7_owed r2 (xs (v4 + (1 : Int32)).toNatClampNeg) (xs (v4 + (2 : Int32)).toNatClampNeg) S2481 (fun z2486 S2487 => hp_mono S2481 S2487 → (((z2480 = z2486) → wb_L_law_1216 b L xs r1 r2 r3 v4 S2487 K23 Q) ∧ ((¬ (z2480 = z2486)) → False))))) ∧ (((xs v4.toNatClampNeg) &&& (31 : Int32)) = (16 : Int32) → (vp_in (v4 + (1 : Int32)) L) ∧ (vp_in (v4 + (2 : Int32)) L) ∧ (st_C S r1 = 1) ∧ wp_X1_state r1 (xs (v4 + (1 : Int32)).toNatClampNeg) (xs (v4 + (2 : Int32)).toNatClampNeg) S (fun z2492 S2493 => hp_mono S S2493 → (vp_in (v4 + (1 : Int32)) L) ∧ (vp_in (v4 + (2 : Int32)) L) ∧ (st_C S2493 r2 = 7) ∧ wp_X7_state r2 (xs (v4 + (1 : Int32)).toNatClampNeg) (xs (v4 + (2 : Int32)).toNatClampNeg) S2493 (fun z2498 S2499 => hp_mono S2493 S2499 → (((z2492 = z2498) → wb_L_law_1216 b L xs r1 r2 r3 v4 S2499 K23 Q) ∧ ((¬ (z2492 = z2498)) → False))))) ∧ (((xs v4.toNatClampNeg) &&& (31 : Int32)) = (17 : Int32) → (vp_in (v4 + (1 : Int32)) L) ∧ (vp_in (v4 + (2 : Int32)) L) ∧ (vp_in (v4 + (3 : Int32)) L) ∧ (st_C S r1 = 1) ∧ wp_X1_sold r1 (xs (v4 + (1 : Int32)).toNatClampNeg) (xs (v4 + (2 : Int32)).toNatClampNeg) (xs (v4 + (3 : Int32)).toNatClampNeg) S (fun z2505 S2506 => hp_mono S S2506 → (vp_in (v4 + (1 : Int32)) L) ∧ (vp_in (v4 + (2 : Int32)) L) ∧ (vp_in (v4 + (3 : Int32)) L) ∧ (st_C S2506 r2 = 7) ∧ wp_X7_sold r2 (xs (v4 + (1 : Int32)).toNatClampNeg) (xs (v4 + (2 : Int32)).toNatClampNeg) (xs (v4 + (3 : Int32)).toNatClampNeg) S2506 (fun z2512 S2513 => hp_mono S2506 S2513 → (((z2505 = z2512) → wb_L_law_1216 b L xs r1 r2 r3 v4 S2513 K23 Q) ∧ ((¬ (z2505 = z2512)) → False))))) ∧ (((xs v4.toNatClampNeg) &&& (31 : Int32)) = (18 : Int32) → (vp_in (v4 + (1 : Int32)) L) ∧ (vp_in (v4 + (2 : Int32)) L) ∧ (vp_in (v4 + (3 : Int32)) L) ∧ (vp_in (v4 + (4 : Int32)) L) ∧ (st_C S r1 = 1) ∧ wp_X1_own r1 (xs (v4 + (1 : Int32)).toNatClampNeg) (xs (v4 + (2 : Int32)).toNatClampNeg) (xs (v4 + (3 : Int32)).toNatClampNeg) (xs (v4 + (4 : Int32)).toNatClampNeg) S (fun z2520 S2521 => hp_mono S S2521 → (vp_in (v4 + (1 : Int32)) L) ∧ (vp_in (v4 + (2 : Int32)) L) ∧ (vp_in (v4 + (3 : Int32)) L) ∧ (vp_in (v4 + (4 : Int32)) L) ∧ (st_C S2521 r2 = 7) ∧ wp_X7_own r2 (xs (v4 + (1 : Int32)).toNatClampNeg) (xs (v4 + (2 : Int32)).toNatClampNeg) (xs (v4 + (3 : Int32)).toNatClampNeg) (xs (v4 + (4 : Int32)).toNatClampNeg) S2521 (fun z2528 S2529 => hp_mono S2521 S2529 → (((z2520 = z2528) → wb_L_law_1216 b L xs r1 r2 r3 v4 S2529 K23 Q) ∧ ((¬ (z2520 = z2528)) → False))))) ∧ (((xs v4.toNatClampNeg) &&& (31 : Int32)) = (19 : Int32) → (vp_in (v4 + (1 : Int32)) L) ∧ (vp_in (v4 + (2 : Int32)) L) ∧ (vp_in (v4 + (3 : Int32)) L) ∧ (st_C S r1 = 1) ∧ wp_X1_worth r1 (xs (v4 + (1 : Int32)).toNatClampNeg) (xs (v4 + (2 : Int32)).toNatClampNeg) (xs (v4 + (3 : Int32)).toNatClampNeg) S (fun z2535 S2536 => hp_mono S S2536 → (vp_in (v4 + (1 : Int32)) L) ∧ (vp_in (v4 + (2 : Int32)) L) ∧ (vp_in (v4 + (3 : Int32)) L) ∧ (st_C S2536 r2 = 7) ∧ wp_X7_worth r2 (xs (v4 + (1 : Int32)).toNatClampNeg) (xs (v4 + (2 : Int32)).toNatClampNeg) (xs (v4 + (3 : Int32)).toNatClampNeg) S2536 (fun z2542 S2543 => hp_mono S2536 S2543 → (((z2535 = z2542) → wb_L_law_1216 b L xs r1 r2 r3 v4 S2543 K23 Q) ∧ ((¬ (z2535 = z2542)) → False))))) ∧ (((xs v4.toNatClampNeg) &&& (31 : Int32)) = (20 : Int32) → (vp_in (v4 + (1 : Int32)) L) ∧ (st_C S r1 = 1) ∧ wp_X1_names r1 (xs (v4 + (1 : Int32)).toNatClampNeg) S (fun z2547 S2548 => hp_mono S S2548 → (vp_in (v4 + (1 : Int32)) L) ∧ (st_C S2548 r2 = 7) ∧ wp_X7_names r2 (xs (v4 + (1 : Int32)).toNatClampNeg) S2548 (fun z2552 S2553 => hp_mono S2548 S2553 → (((z2547 = z2552) → wb_L_law_1216 b L xs r1 r2 r3 v4 S2553 K23 Q) ∧ ((¬ (z2547 = z2552)) → False))))) ∧ (((xs v4.toNatClampNeg) &&& (31 : Int32)) = (21 : Int32) → (vp_in (v4 + (1 : Int32)) L) ∧ (st_C S r1 = 1) ∧ wp_X1_named r1 (xs (v4 + (1 : Int32)).toNatClampNeg) S (fun z2557 => (vp_in (v4 + (1 : Int32)) L) ∧ (st_C S r2 = 7) ∧ wp_X7_named r2 (xs (v4 + (1 : Int32)).toNatClampNeg) S (fun z2560 S2561 => hp_mono S S2561 → (((z2557 = z2560) → wb_L_law_1216 b L xs r1 r2 r3 v4 S2561 K23 Q) ∧ ((¬ (z2557 = z2560)) → False))))) ∧ (((xs v4.toNatClampNeg) &&& (31 : Int32)) = (22 : Int32) → (vp_in (v4 + (1 : Int32)) L) ∧ (st_C S r1 = 1) ∧ wp_X1_look r1 (xs (v4 + (1 : Int32)).toNatClampNeg) S (fun z2565 S2566 => hp_mono S S2566 → (vp_in (v4 + (1 : Int32)) L) ∧ (st_C S2566 r2 = 7) ∧ wp_X7_look r2 (xs (v4 + (1 : Int32)).toNatClampNeg) S2566 (fun z2570 S2571 => hp_mono S2566 S2571 → (((z2565 = z2570) → wb_L_law_1216 b L xs r1 r2 r3 v4 S2571 K23 Q) ∧ ((¬ (z2565 = z2570)) → False))))) ∧ (((xs v4.toNatClampNeg) &&& (31 : Int32)) = (23 : Int32) → (vp_in (v4 + (1 : Int32)) L) ∧ wp_X0_risk r1 (xs (v4 + (1 : Int32)).toNatClampNeg) r3 S (fun z2574 S2575 => hp_mono S S2575 → (vp_in (v4 + (1 : Int32)) L) ∧ (st_C S2575 r2 = 7) ∧ wp_X7_risk r2 (xs (v4 + (1 : Int32)).toNatClampNeg) S2575 (fun z2579 S2580 => hp_mono S2575 S2580 → wp_X7_thrown r2 S2580 (fun z2582 => (((z2582 = z2574) → (((z2574 = 0) → (st_C S2580 r3 = 53) ∧ (vp_in (0 : Int32) (st_L S2580 r3)) ∧ ((((lg_cmp (st_J S2580 r3 (0 : Int32).toNatClampNeg) z2579) = 0) → wb_L_law_1163 b L xs r1 r2 r3 v4 S2580 K23 Q) ∧ ((¬ ((lg_cmp (st_J S2580 r3 (0 : Int32).toNatClampNeg) z2579) = 0)) → False))) ∧ ((¬ (z2574 = 0)) → wb_L_law_1163 b L xs r1 r2 r3 v4 S2580 K23 Q))) ∧ ((¬ (z2582 = z2574)) → False)))))) ∧ (((xs v4.toNatClampNeg) &&& (31 : Int32)) = (24 : Int32) → (vp_in (v4 + (1 : Int32)) L) ∧ (st_C S r1 = 1) ∧ wp_X1_converts r1 (xs (v4 + (1 : Int32)).toNatClampNeg) S (fun z2587 S2588 => hp_mono S S2588 → (vp_in (v4 + (1 : Int32)) L) ∧ (st_C S2588 r2 = 7) ∧ wp_X7_converts r2 (xs (v4 + (1 : Int32)).toNatClampNeg) S2588 (fun z2592 S2593 => hp_mono S2588 S2593 → (((z2587 = z2592) → wb_L_law_1216 b L xs r1 r2 r3 v4 S2593 K23 Q) ∧ ((¬ (z2587 = z2592)) → False))))) ∧ (((xs v4.toNatClampNeg) &&& (31 : Int32)) = (25 : Int32) → (vp_in (v4 + (1 : Int32)) L) ∧ (st_C S r1 = 1) ∧ wp_X1_count r1 (xs (v4 + (1 : Int32)).toNatClampNeg) S (fun z2597 => (vp_in (v4 + (1 : Int32)) L) ∧ (st_C S r2 = 7) ∧ wp_X7_count r2 (xs (v4 + (1 : Int32)).toNatClampNeg) S (fun z2600 S2601 => hp_mono S S2601 → (((z2597 = z2600) → wb_L_law_1216 b L xs r1 r2 r3 v4 S2601 K23 Q) ∧ ((¬ (z2597 = z2600)) → False))))) ∧ ((¬ ((xs v4.toNatClampNeg) &&& (31 : Int32)) = (0 : Int32) ∧ ¬ ((xs v4.toNatClampNeg) &&& (31 : Int32)) = (1 : Int32) ∧ ¬ ((xs v4.toNatClampNeg) &&& (31 : Int32)) = (2 : Int32) ∧ ¬ ((xs v4.toNatClampNeg) &&& (31 : Int32)) = (3 : Int32) ∧ ¬ ((xs v4.toNatClampNeg) &&& (31 : Int32)) = (4 : Int32) ∧ ¬ ((xs v4.toNatClampNeg) &&& (31 : Int32)) = (5 : Int32) ∧ ¬ ((xs v4.toNatClampNeg) &&& (31 : Int32)) = (6 : Int32) ∧ ¬ ((xs v4.toNatClampNeg) &&& (31 : Int32)) = (7 : Int32) ∧ ¬ ((xs v4.toNatClampNeg) &&& (31 : Int32)) = (8 : Int32) ∧ ¬ ((xs v4.toNatClampNeg) &&& (31 : Int32)) = (9 : Int32) ∧ ¬ ((xs v4.toNatClampNeg) &&& (31 : Int32)) = (10 : Int32) ∧ ¬ ((xs v4.toNatClampNeg) &&& (31 : Int32)) = (11 : Int32) ∧ ¬ ((xs v4.toNatClampNeg) &&& (31 : Int32)) = (12 : Int32) ∧ ¬ ((xs v4.toNatClampNeg) &&& (31 : Int32)) = (13 : Int32) ∧ ¬ ((xs v4.toNatClampNeg) &&& (31 : Int32)) = (14 : Int32) ∧ ¬ ((xs v4.toNatClampNeg) &&& (31 : Int32)) = (15 : Int32) ∧ ¬ ((xs v4.toNatClampNeg) &&& (31 : Int32)) = (16 : Int32) ∧ ¬ ((xs v4.toNatClampNeg) &&& (31 : Int32)) = (17 : Int32) ∧ ¬ ((xs v4.toNatClampNeg) &&& (31 : Int32)) = (18 : Int32) ∧ ¬ ((xs v4.toNatClampNeg) &&& (31 : Int32)) = (19 : Int32) ∧ ¬ ((xs v4.toNatClampNeg) &&& (31 : Int32)) = (20 : Int32) ∧ ¬ ((xs v4.toNatClampNeg) &&& (31 : Int32)) = (21 : Int32) ∧ ¬ ((xs v4.toNatClampNeg) &&& (31 : Int32)) = (22 : Int32) ∧ ¬ ((xs v4.toNatClampNeg) &&& (31 : Int32)) = (23 : Int32) ∧ ¬ ((xs v4.toNatClampNeg) &&& (31 : Int32)) = (24 : Int32) ∧ ¬ ((xs v4.toNatClampNeg) &&& (31 : Int32)) = (25 : Int32)) → wb_L_law_1216 b L xs r1 r2 r3 v4 S K23 Q))) ∧ ((¬ (v4 ≤ ((nI L) - (6 : Int32)))) → True))
def wl_L_law_23 (b L : Nat) (xs : Nat → Int32) (r1 : Nat) (r2 : Nat) (r3 : Nat) (v4 : Int32) (S : hp_St) (Q : Prop) : Prop := ∃ (I : Int32 → hp_St → Prop) (μ : Int32 → hp_St → Nat), I v4 S ∧ μ v4 S < 66 ∧ ∀ (v4 : Int32) (S1 : hp_St), hp_mono S S1 → I v4 S1 → wb_L_law_23 b L xs r1 r2 r3 v4 S1 (fun v4' S2 => I v4' S2 ∧ μ v4' S2 < μ v4 S1) Q
def wp_L_law (b L : Nat) (xs : Nat → Int32) (S : hp_St) (Q : Prop) : Prop := (∀ n4 S1, n4 = st_Z S → S1 = st_nA S 1 0 → hp_fr S n4 → wp_X1_init n4 S1 (fun S8 => hp_mono S1 S8 → (∀ n13 S10, n13 = st_Z S8 → S10 = st_nA S8 7 0 → hp_fr S8 n13 → wp_X7_init n13 S10 (fun S17 => hp_mono S10 S17 → (∀ n22 S19, n22 = st_Z S17 → S19 = st_nA S17 53 1 → hp_fr S17 n22 → wl_L_law_23 b L xs n4 n13 n22 (0 : Int32) S19 Q)))))
set_option maxHeartbeats 4000000 in
theorem m_L_law {p : Program} {l : Launch} {e : Env} {s : State} {m : MethodId} {below : List Frame} {meth : Method} {c : Code} {B : Nat} {D : va_G} {b L : Nat} {xs : Nat → Int32} {nm : String} (G : hp_G l B D s b) (E : hp_E B D s p s m #[Value.ref b] meth c code "LifeRentsLaw" nm 8 ret) (ls : Array Slot) (hl : lv_has ls 8 [(0, .ref b)]) (Si : hp_St) (hR : hp_S B D s Si s.heap []) (hX : va_X b L xs s s.heap) (hbl : b < s.heap.size) (Q : Prop) (h : wp_L_law b L xs Si Q) : W p l e room_1 s m #[Value.ref b] below meth c s.heap [] 0 0 (lw_Z below #[Value.ref b] s) (F0 m 0 ls []) := by
  have hbA : ¬ B < b := by have := G.1; omega
  have hR0 := hR
  have hrc : room_1.cells = 603072 := rfl
  have hrs : room_1.slots = 7190634 := rfl
  have hGz : s.heap.size = B + 1 := G.1
  have hm : hp_mono Si Si := hp_mono.rf
  generalize hH : s.heap = H at hR ⊢
  generalize hLo : ([] : List Loc) = locs at hR ⊢
  have b23 : ∀ (r1 : Nat) (r2 : Nat) (r3 : Nat) (v4 : Int32) (S : hp_St) (H : Heap) (locs : List Loc) (ls : Array Slot), wl_L_law_23 b L xs r1 r2 r3 v4 S Q → lv_has ls 8 [(0, .ref b), (1, hp_v B r1), (2, hp_v B r2), (3, hp_v B r3), (4, .int v4)] → hp_S B D s S H locs → hp_mono Si S → W p l e room_1 s m #[Value.ref b] below meth c H locs 98 5806 (lw_Z below #[Value.ref b] s) (F0 m 23 ls []) := by
    intro r1 r2 r3 v4 S H locs ls h hl hR hm
    obtain ⟨I23, μ23, hI, hμ, hst⟩ := h
    obtain ⟨Sa23, eSa23⟩ : ∃ x, x = S := ⟨_, rfl⟩
    subst eSa23
    have key23 : ∀ (N : Nat) (v4 : Int32) (Su23 : hp_St) (H : Heap) (locs : List Loc) (ls : Array Slot), N ≤ 66 → μ23 v4 Su23 < N → I23 v4 Su23 → lv_has ls 8 [(0, .ref b), (1, hp_v B r1), (2, hp_v B r2), (3, hp_v B r3), (4, .int v4)] → hp_S B D s Su23 H locs → hp_mono Sa23 Su23 → W p l e room_1 s m #[Value.ref b] below meth c H locs (98 + (66 - N) * 1004) (5806 + (66 - N) * 36081) (lw_Z below #[Value.ref b] s) (F0 m 23 ls []) := by
      intro N
      induction N with
      | zero =>
        intro v4 Su23 H locs ls hN6 hN
        exact absurd hN (Nat.not_lt_zero _)
      | succ N ih23 =>
        intro v4 Su23 H locs ls hN6 hN hI hl hR ms23
        have h := hst v4 Su23 ms23 hI
        have hm := hp_mono.tr hm ms23
        obtain ⟨K23, hKe23⟩ : ∃ K : Int32 → hp_St → Prop, K = (fun v4' Sk => I23 v4' Sk ∧ μ23 v4' Sk < μ23 v4 Su23) := ⟨_, rfl⟩
        rw [← hKe23] at h
        have hK23 : ∀ (v4' : Int32) (Sk : hp_St) (H : Heap) (locs : List Loc) (ls : Array Slot), K23 v4' Sk → lv_has ls 8 [(0, .ref b), (1, hp_v B r1), (2, hp_v B r2), (3, hp_v B r3), (4, .int (v4'))] → hp_S B D s Sk H locs → hp_mono Sa23 Sk → W p l e room_1 s m #[Value.ref b] below meth c H locs (98 + (66 - N) * 1004) (5806 + (66 - N) * 36081) (lw_Z below #[Value.ref b] s) (F0 m 23 ls []) := by
          intro v4' Sk H locs ls hI hl hR ms
          rw [hKe23] at hI
          exact ih23 v4' Sk H locs ls (by omega) (Nat.lt_of_lt_of_le hI.2 (Nat.le_of_lt_succ hN)) hI.1 hl hR ms
        have b1216 : ∀ (v4 : Int32) (S : hp_St) (H : Heap) (locs : List Loc) (ls : Array Slot), wb_L_law_1216 b L xs r1 r2 r3 v4 S K23 Q → lv_has ls 8 [(0, .ref b), (1, hp_v B r1), (2, hp_v B r2), (3, hp_v B r3), (4, .int v4)] → hp_S B D s S H locs → hp_mono Si S → hp_mono Sa23 S → W p l e room_1 s m #[Value.ref b] below meth c H locs (1102 + (66 - (N + 1)) * 1004) (41887 + (66 - (N + 1)) * 36081) (lw_Z below #[Value.ref b] s) (F0 m 1216 ls []) := by
          intro v4 S H locs ls h hl hR hm ms23
          unfold wb_L_law_1216 at h
          refine hp_iinc E hl (v4 + (6 : Int32)) 4 (lv' := [(0, .ref b), (1, hp_v B r1), (2, hp_v B r2), (3, hp_v B r3)]) dL_law_1216 (rfl : 1216 + 3 = 1219) rfl (by first | rfl | (congr 1)) (by decide) (by simp [hp_vc, hp_ci, hp_cj]) (fun ls hl => ?_)
          refine hp_goto E (tgt := 23) dL_law_1219 (by decide) ?_
          exact W.widen (by omega) (by omega) (hK23 _ _ _ _ _ h (lv_sub hl [1, 2, 3, 4, 0] rfl) hR ms23)
        have b610 : ∀ (v4 : Int32) (t0 : Int32) (t1 : Nat) (t2 : Int32) (t3 : Int32) (t4 : Int32) (S : hp_St) (H : Heap) (locs : List Loc) (ls : Array Slot), wb_L_law_610 b L xs r1 r2 r3 v4 t0 t1 t2 t3 t4 S K23 Q → lv_has ls 8 [(0, .ref b), (1, hp_v B r1), (2, hp_v B r2), (3, hp_v B r3), (4, .int v4)] → hp_S B D s S H locs → hp_mono Si S → hp_mono Sa23 S → W p l e room_1 s m #[Value.ref b] below meth c H locs (100 + (66 - (N + 1)) * 1004) (5873 + (66 - (N + 1)) * 36081) (lw_Z below #[Value.ref b] s) (F0 m 610 ls [.int t4, .int t3, .int t2, hp_v B t1, .int t0]) := by
          intro v4 t0 t1 t2 t3 t4 S H locs ls h hl hR hm ms23
          unfold wb_L_law_610 at h
          obtain ⟨hc61001, h⟩ := h
          refine hp_fi (hp_rV E hR hl (m_X7_note G _ _ _ _ _ _ hc61001 h) hc61001 (ci := 6) rfl rfl q1565 q1566 q1567 q82 q1568 nf_X7_note ⟨Nat.le_of_ble_eq_true rfl, Nat.le_of_ble_eq_true rfl⟩ (rest := [.int t0]) rfl (Nat.le_of_ble_eq_true rfl) dL_law_610 ⟨by omega, by omega⟩) hR (rfl : 610 + 3 = 613) (fun z61002 S61003 H locs hq hR => ?_)
          obtain ⟨hm61004, h⟩ := hq
          have h := h hm61004
          have hm := hp_mono.tr hm hm61004
          have ms23 := hp_mono.tr ms23 hm61004
          refine hp_icmp_eq E dL_law_613 (rfl : 613 + 3 = 616) (tgt := 1216) (by decide) (fun hb => ?_) (fun hb => ?_)
          · have h := h.1 hb
            exact W.widen (by omega) (by omega) (b1216 _ _ _ _ _ h hl hR hm ms23)
          · have h := h.2 hb
            refine hp_iconst E (0 : Int32) (by decide) dL_law_616 (rfl : 616 + 1 = 617) ?_
            exact h.elim
        have b580 : ∀ (v4 : Int32) (t0 : Nat) (t1 : Int32) (t2 : Int32) (t3 : Int32) (S : hp_St) (H : Heap) (locs : List Loc) (ls : Array Slot), wb_L_law_580 b L xs r1 r2 r3 v4 t0 t1 t2 t3 S K23 Q → lv_has ls 8 [(0, .ref b), (1, hp_v B r1), (2, hp_v B r2), (3, hp_v B r3), (4, .int v4)] → hp_S B D s S H locs → hp_mono Si S → hp_mono Sa23 S → W p l e room_1 s m #[Value.ref b] below meth c H locs (98 + (66 - (N + 1)) * 1004) (5806 + (66 - (N + 1)) * 36081) (lw_Z below #[Value.ref b] s) (F0 m 580 ls [.int t3, .int t2, .int t1, hp_v B t0]) := by
          intro v4 t0 t1 t2 t3 S H locs ls h hl hR hm ms23
          unfold wb_L_law_580 at h
          obtain ⟨hc58001, h⟩ := h
          refine hp_fi (hp_rV E hR hl (m_X1_note G _ _ _ _ _ _ hc58001 h) hc58001 (ci := 0) rfl rfl q882 q883 q884 q73 q885 nf_X1_note ⟨Nat.le_of_ble_eq_true rfl, Nat.le_of_ble_eq_true rfl⟩ (rest := []) rfl (Nat.le_of_ble_eq_true rfl) dL_law_580 ⟨by omega, by omega⟩) hR (rfl : 580 + 3 = 583) (fun z58002 S58003 H locs hq hR => ?_)
          obtain ⟨hm58004, h⟩ := hq
          have h := h hm58004
          have hm := hp_mono.tr hm hm58004
          have ms23 := hp_mono.tr ms23 hm58004
          refine hp_aload_n E hl 2 rfl 2 rfl dL_law_583 (rfl : 583 + 1 = 584) ?_
          refine lv_aload_n E.x E.b dL_law_584 rfl (lv_at hl 0 rfl) ?_
          refine hp_iload E hl 4 rfl dL_law_585 (rfl : 585 + 2 = 587) ?_
          refine hp_iconst E (1 : Int32) (by decide) dL_law_587 (rfl : 587 + 1 = 588) ?_
          refine hp_iadd E dL_law_588 (rfl : 588 + 1 = 589) ?_
          obtain ⟨hi58005, h⟩ := h
          refine va_sld E.x E.b hX hbl hbA (hp_vaS hR0 hR hm.1) hi58005 dL_law_589 ?_
          refine lv_aload_n E.x E.b dL_law_590 rfl (lv_at hl 0 rfl) ?_
          refine hp_iload E hl 4 rfl dL_law_591 (rfl : 591 + 2 = 593) ?_
          refine hp_iconst E (2 : Int32) (by decide) dL_law_593 (rfl : 593 + 1 = 594) ?_
          refine hp_iadd E dL_law_594 (rfl : 594 + 1 = 595) ?_
          obtain ⟨hi58006, h⟩ := h
          refine va_sld E.x E.b hX hbl hbA (hp_vaS hR0 hR hm.1) hi58006 dL_law_595 ?_
          refine lv_aload_n E.x E.b dL_law_596 rfl (lv_at hl 0 rfl) ?_
          refine hp_iload E hl 4 rfl dL_law_597 (rfl : 597 + 2 = 599) ?_
          refine hp_iconst E (3 : Int32) (by decide) dL_law_599 (rfl : 599 + 1 = 600) ?_
          refine hp_iadd E dL_law_600 (rfl : 600 + 1 = 601) ?_
          obtain ⟨hi58007, h⟩ := h
          refine va_sld E.x E.b hX hbl hbA (hp_vaS hR0 hR hm.1) hi58007 dL_law_601 ?_
          refine hp_if_eq E dL_law_602 (rfl : 602 + 3 = 605) (tgt := 609) (by decide) (fun hb => ?_) (fun hb => ?_)
          · have h := h.1 hb
            refine hp_iconst E (0 : Int32) (by decide) dL_law_609 (rfl : 609 + 1 = 610) ?_
            exact W.widen (by omega) (by omega) (b610 _ _ _ _ _ _ _ _ _ _ h hl hR hm ms23)
          · have h := h.2 hb
            refine hp_iconst E (1 : Int32) (by decide) dL_law_605 (rfl : 605 + 1 = 606) ?_
            refine hp_goto E (tgt := 610) dL_law_606 (by decide) ?_
            exact W.widen (by omega) (by omega) (b610 _ _ _ _ _ _ _ _ _ _ h hl hR hm ms23)
        have b1163 : ∀ (v4 : Int32) (S : hp_St) (H : Heap) (locs : List Loc) (ls : Array Slot), wb_L_law_1163 b L xs r1 r2 r3 v4 S K23 Q → lv_has ls 8 [(0, .ref b), (1, hp_v B r1), (2, hp_v B r2), (3, hp_v B r3), (4, .int v4)] → hp_S B D s S H locs → hp_mono Si S → hp_mono Sa23 S → W p l e room_1 s m #[Value.ref b] below meth c H locs (99 + (66 - (N + 1)) * 1004) (5814 + (66 - (N + 1)) * 36081) (lw_Z below #[Value.ref b] s) (F0 m 1163 ls []) := by
          intro v4 S H locs ls h hl hR hm ms23
          unfold wb_L_law_1163 at h
          refine hp_goto E (tgt := 1216) dL_law_1163 (by decide) ?_
          exact W.widen (by omega) (by omega) (b1216 _ _ _ _ _ h hl hR hm ms23)
        unfold wb_L_law_23 at h
        refine hp_iload E hl 4 rfl dL_law_23 (rfl : 23 + 2 = 25) ?_
        refine lv_aload_n E.x E.b dL_law_25 rfl (lv_at hl 0 rfl) ?_
        refine va_slen E.x E.b hX hbl hbA (hp_vaS hR0 hR hm.1) dL_law_26 ?_
        refine hp_bipush E (6 : Int32) (by decide) dL_law_27 (rfl : 27 + 2 = 29) ?_
        refine hp_isub E dL_law_29 (rfl : 29 + 1 = 30) ?_
        refine hp_icmp_gt E dL_law_30 (rfl : 30 + 3 = 33) (tgt := 1222) (by decide) (fun hb => ?_) (fun hb => ?_)
        · have h := h.1 hb
          refine lv_aload_n E.x E.b dL_law_33 rfl (lv_at hl 0 rfl) ?_
          refine hp_iload E hl 4 rfl dL_law_34 (rfl : 34 + 2 = 36) ?_
          obtain ⟨hi2301, h⟩ := h
          refine va_sld E.x E.b hX hbl hbA (hp_vaS hR0 hR hm.1) hi2301 dL_law_36 ?_
          refine hp_bipush E (31 : Int32) (by decide) dL_law_37 (rfl : 37 + 2 = 39) ?_
          refine hp_iand E dL_law_39 (rfl : 39 + 1 = 40) ?_
          refine hp_case (x := ((xs v4.toNatClampNeg) &&& (31 : Int32))) (k := (0 : Int32)) (fun hb => ?_) (fun hn0 => ?_)
          · refine hp_tabIn E hb dL_law_40 (off := 120) (tgt := 160) (by decide) (by decide) rfl (by decide) ?_
            have h := h.1 hb
            refine hp_aload_n E hl 1 rfl 1 rfl dL_law_160 (rfl : 160 + 1 = 161) ?_
            refine lv_aload_n E.x E.b dL_law_161 rfl (lv_at hl 0 rfl) ?_
            refine hp_iload E hl 4 rfl dL_law_162 (rfl : 162 + 2 = 164) ?_
            refine hp_iconst E (1 : Int32) (by decide) dL_law_164 (rfl : 164 + 1 = 165) ?_
            refine hp_iadd E dL_law_165 (rfl : 165 + 1 = 166) ?_
            obtain ⟨hi2302, h⟩ := h
            refine va_sld E.x E.b hX hbl hbA (hp_vaS hR0 hR hm.1) hi2302 dL_law_166 ?_
            refine lv_aload_n E.x E.b dL_law_167 rfl (lv_at hl 0 rfl) ?_
            refine hp_iload E hl 4 rfl dL_law_168 (rfl : 168 + 2 = 170) ?_
            refine hp_iconst E (2 : Int32) (by decide) dL_law_170 (rfl : 170 + 1 = 171) ?_
            refine hp_iadd E dL_law_171 (rfl : 171 + 1 = 172) ?_
            obtain ⟨hi2303, h⟩ := h
            refine va_sld E.x E.b hX hbl hbA (hp_vaS hR0 hR hm.1) hi2303 dL_law_172 ?_
            refine lv_aload_n E.x E.b dL_law_173 rfl (lv_at hl 0 rfl) ?_
            refine hp_iload E hl 4 rfl dL_law_174 (rfl : 174 + 2 = 176) ?_
            refine hp_iconst E (3 : Int32) (by decide) dL_law_176 (rfl : 176 + 1 = 177) ?_
            refine hp_iadd E dL_law_177 (rfl : 177 + 1 = 178) ?_
            obtain ⟨hi2304, h⟩ := h
            refine va_sld E.x E.b hX hbl hbA (hp_vaS hR0 hR hm.1) hi2304 dL_law_178 ?_
            refine lv_aload_n E.x E.b dL_law_179 rfl (lv_at hl 0 rfl) ?_
            refine hp_iload E hl 4 rfl dL_law_180 (rfl : 180 + 2 = 182) ?_
            refine hp_iconst E (4 : Int32) (by decide) dL_law_182 (rfl : 182 + 1 = 183) ?_
            refine hp_iadd E dL_law_183 (rfl : 183 + 1 = 184) ?_
            obtain ⟨hi2305, h⟩ := h
            refine va_sld E.x E.b hX hbl hbA (hp_vaS hR0 hR hm.1) hi2305 dL_law_184 ?_
            refine lv_aload_n E.x E.b dL_law_185 rfl (lv_at hl 0 rfl) ?_
            refine hp_iload E hl 4 rfl dL_law_186 (rfl : 186 + 2 = 188) ?_
            refine hp_iconst E (5 : Int32) (by decide) dL_law_188 (rfl : 188 + 1 = 189) ?_
            refine hp_iadd E dL_law_189 (rfl : 189 + 1 = 190) ?_
            obtain ⟨hi2306, h⟩ := h
            refine va_sld E.x E.b hX hbl hbA (hp_vaS hR0 hR hm.1) hi2306 dL_law_190 ?_
            obtain ⟨hc2307, h⟩ := h
            refine hp_fi (hp_rV E hR hl (m_X1_feed G _ _ _ _ _ _ _ _ hc2307 h) hc2307 (ci := 0) rfl rfl q381 q382 q383 q73 q384 nf_X1_feed ⟨Nat.le_of_ble_eq_true rfl, Nat.le_of_ble_eq_true rfl⟩ (rest := []) rfl (Nat.le_of_ble_eq_true rfl) dL_law_191 ⟨by omega, by omega⟩) hR (rfl : 191 + 3 = 194) (fun z2308 S2309 H locs hq hR => ?_)
            obtain ⟨hm2310, h⟩ := hq
            have h := h hm2310
            have hm := hp_mono.tr hm hm2310
            have ms23 := hp_mono.tr ms23 hm2310
            refine hp_aload_n E hl 2 rfl 2 rfl dL_law_194 (rfl : 194 + 1 = 195) ?_
            refine lv_aload_n E.x E.b dL_law_195 rfl (lv_at hl 0 rfl) ?_
            refine hp_iload E hl 4 rfl dL_law_196 (rfl : 196 + 2 = 198) ?_
            refine hp_iconst E (1 : Int32) (by decide) dL_law_198 (rfl : 198 + 1 = 199) ?_
            refine hp_iadd E dL_law_199 (rfl : 199 + 1 = 200) ?_
            obtain ⟨hi2311, h⟩ := h
            refine va_sld E.x E.b hX hbl hbA (hp_vaS hR0 hR hm.1) hi2311 dL_law_200 ?_
            refine lv_aload_n E.x E.b dL_law_201 rfl (lv_at hl 0 rfl) ?_
            refine hp_iload E hl 4 rfl dL_law_202 (rfl : 202 + 2 = 204) ?_
            refine hp_iconst E (2 : Int32) (by decide) dL_law_204 (rfl : 204 + 1 = 205) ?_
            refine hp_iadd E dL_law_205 (rfl : 205 + 1 = 206) ?_
            obtain ⟨hi2312, h⟩ := h
            refine va_sld E.x E.b hX hbl hbA (hp_vaS hR0 hR hm.1) hi2312 dL_law_206 ?_
            refine lv_aload_n E.x E.b dL_law_207 rfl (lv_at hl 0 rfl) ?_
            refine hp_iload E hl 4 rfl dL_law_208 (rfl : 208 + 2 = 210) ?_
            refine hp_iconst E (3 : Int32) (by decide) dL_law_210 (rfl : 210 + 1 = 211) ?_
            refine hp_iadd E dL_law_211 (rfl : 211 + 1 = 212) ?_
            obtain ⟨hi2313, h⟩ := h
            refine va_sld E.x E.b hX hbl hbA (hp_vaS hR0 hR hm.1) hi2313 dL_law_212 ?_
            refine lv_aload_n E.x E.b dL_law_213 rfl (lv_at hl 0 rfl) ?_
            refine hp_iload E hl 4 rfl dL_law_214 (rfl : 214 + 2 = 216) ?_
            refine hp_iconst E (4 : Int32) (by decide) dL_law_216 (rfl : 216 + 1 = 217) ?_
            refine hp_iadd E dL_law_217 (rfl : 217 + 1 = 218) ?_
            obtain ⟨hi2314, h⟩ := h
            refine va_sld E.x E.b hX hbl hbA (hp_vaS hR0 hR hm.1) hi2314 dL_law_218 ?_
            refine lv_aload_n E.x E.b dL_law_219 rfl (lv_at hl 0 rfl) ?_
            refine hp_iload E hl 4 rfl dL_law_220 (rfl : 220 + 2 = 222) ?_
            refine hp_iconst E (5 : Int32) (by decide) dL_law_222 (rfl : 222 + 1 = 223) ?_
            refine hp_iadd E dL_law_223 (rfl : 223 + 1 = 224) ?_
            obtain ⟨hi2315, h⟩ := h
            refine va_sld E.x E.b hX hbl hbA (hp_vaS hR0 hR hm.1) hi2315 dL_law_224 ?_
            obtain ⟨hc2316, h⟩ := h
            refine hp_fi (hp_rV E hR hl (m_X7_feed G _ _ _ _ _ _ _ _ hc2316 h) hc2316 (ci := 6) rfl rfl q1440 q1441 q1442 q82 q1443 nf_X7_feed ⟨Nat.le_of_ble_eq_true rfl, Nat.le_of_ble_eq_true rfl⟩ (rest := [.int z2308]) rfl (Nat.le_of_ble_eq_true rfl) dL_law_225 ⟨by omega, by omega⟩) hR (rfl : 225 + 3 = 228) (fun z2317 S2318 H locs hq hR => ?_)
            obtain ⟨hm2319, h⟩ := hq
            have h := h hm2319
            have hm := hp_mono.tr hm hm2319
            have ms23 := hp_mono.tr ms23 hm2319
            refine hp_icmp_eq E dL_law_228 (rfl : 228 + 3 = 231) (tgt := 1216) (by decide) (fun hb => ?_) (fun hb => ?_)
            · have h := h.1 hb
              exact W.widen (by omega) (by omega) (b1216 _ _ _ _ _ h hl hR hm ms23)
            · have h := h.2 hb
              refine hp_iconst E (0 : Int32) (by decide) dL_law_231 (rfl : 231 + 1 = 232) ?_
              exact h.elim
          refine hp_case (x := ((xs v4.toNatClampNeg) &&& (31 : Int32))) (k := (1 : Int32)) (fun hb => ?_) (fun hn1 => ?_)
          · refine hp_tabIn E hb dL_law_40 (off := 193) (tgt := 233) (by decide) (by decide) rfl (by decide) ?_
            have h := h.2.1 hb
            refine hp_aload_n E hl 1 rfl 1 rfl dL_law_233 (rfl : 233 + 1 = 234) ?_
            refine lv_aload_n E.x E.b dL_law_234 rfl (lv_at hl 0 rfl) ?_
            refine hp_iload E hl 4 rfl dL_law_235 (rfl : 235 + 2 = 237) ?_
            refine hp_iconst E (1 : Int32) (by decide) dL_law_237 (rfl : 237 + 1 = 238) ?_
            refine hp_iadd E dL_law_238 (rfl : 238 + 1 = 239) ?_
            obtain ⟨hi2320, h⟩ := h
            refine va_sld E.x E.b hX hbl hbA (hp_vaS hR0 hR hm.1) hi2320 dL_law_239 ?_
            obtain ⟨hc2321, h⟩ := h
            refine hp_fi (hp_rVW E hR hl (m_X1_acts G _ _ _ _ hc2321 h) hc2321 (ci := 0) rfl rfl q389 q390 q391 q73 q392 nf_X1_acts ⟨Nat.le_of_ble_eq_true rfl, Nat.le_of_ble_eq_true rfl⟩ (rest := []) rfl (Nat.le_of_ble_eq_true rfl) dL_law_240 ⟨by omega, by omega⟩) hR (rfl : 240 + 3 = 243) (fun z2322 S2323 H locs hq hR => ?_)
            obtain ⟨hm2324, h⟩ := hq
            have h := h hm2324
            have hm := hp_mono.tr hm hm2324
            have ms23 := hp_mono.tr ms23 hm2324
            refine hp_aload_n E hl 2 rfl 2 rfl dL_law_243 (rfl : 243 + 1 = 244) ?_
            refine lv_aload_n E.x E.b dL_law_244 rfl (lv_at hl 0 rfl) ?_
            refine hp_iload E hl 4 rfl dL_law_245 (rfl : 245 + 2 = 247) ?_
            refine hp_iconst E (1 : Int32) (by decide) dL_law_247 (rfl : 247 + 1 = 248) ?_
            refine hp_iadd E dL_law_248 (rfl : 248 + 1 = 249) ?_
            obtain ⟨hi2325, h⟩ := h
            refine va_sld E.x E.b hX hbl hbA (hp_vaS hR0 hR hm.1) hi2325 dL_law_249 ?_
            obtain ⟨hc2326, h⟩ := h
            refine hp_fi (hp_rV E hR hl (m_X7_acts G _ _ _ _ hc2326 h) hc2326 (ci := 6) rfl rfl q1444 q1445 q1446 q82 q1447 nf_X7_acts ⟨Nat.le_of_ble_eq_true rfl, Nat.le_of_ble_eq_true rfl⟩ (rest := [.int z2322]) rfl (Nat.le_of_ble_eq_true rfl) dL_law_250 ⟨by omega, by omega⟩) hR (rfl : 250 + 3 = 253) (fun z2327 S2328 H locs hq hR => ?_)
            obtain ⟨hm2329, h⟩ := hq
            have h := h hm2329
            have hm := hp_mono.tr hm hm2329
            have ms23 := hp_mono.tr ms23 hm2329
            refine hp_icmp_eq E dL_law_253 (rfl : 253 + 3 = 256) (tgt := 1216) (by decide) (fun hb => ?_) (fun hb => ?_)
            · have h := h.1 hb
              exact W.widen (by omega) (by omega) (b1216 _ _ _ _ _ h hl hR hm ms23)
            · have h := h.2 hb
              refine hp_iconst E (0 : Int32) (by decide) dL_law_256 (rfl : 256 + 1 = 257) ?_
              exact h.elim
          refine hp_case (x := ((xs v4.toNatClampNeg) &&& (31 : Int32))) (k := (2 : Int32)) (fun hb => ?_) (fun hn2 => ?_)
          · refine hp_tabIn E hb dL_law_40 (off := 218) (tgt := 258) (by decide) (by decide) rfl (by decide) ?_
            have h := h.2.2.1 hb
            refine hp_aload_n E hl 1 rfl 1 rfl dL_law_258 (rfl : 258 + 1 = 259) ?_
            refine lv_aload_n E.x E.b dL_law_259 rfl (lv_at hl 0 rfl) ?_
            refine hp_iload E hl 4 rfl dL_law_260 (rfl : 260 + 2 = 262) ?_
            refine hp_iconst E (1 : Int32) (by decide) dL_law_262 (rfl : 262 + 1 = 263) ?_
            refine hp_iadd E dL_law_263 (rfl : 263 + 1 = 264) ?_
            obtain ⟨hi2330, h⟩ := h
            refine va_sld E.x E.b hX hbl hbA (hp_vaS hR0 hR hm.1) hi2330 dL_law_264 ?_
            obtain ⟨hc2331, h⟩ := h
            refine hp_fi (hp_rV E hR hl (m_X1_fault G _ _ _ _ hc2331 h) hc2331 (ci := 0) rfl rfl q679 q680 q681 q73 q682 nf_X1_fault ⟨Nat.le_of_ble_eq_true rfl, Nat.le_of_ble_eq_true rfl⟩ (rest := []) rfl (Nat.le_of_ble_eq_true rfl) dL_law_265 ⟨by omega, by omega⟩) hR (rfl : 265 + 3 = 268) (fun z2332 Sx H locs hq hR => ?_)
            obtain ⟨hSx, h⟩ := hq
            rw [hSx] at hR
            refine hp_aload_n E hl 2 rfl 2 rfl dL_law_268 (rfl : 268 + 1 = 269) ?_
            refine lv_aload_n E.x E.b dL_law_269 rfl (lv_at hl 0 rfl) ?_
            refine hp_iload E hl 4 rfl dL_law_270 (rfl : 270 + 2 = 272) ?_
            refine hp_iconst E (1 : Int32) (by decide) dL_law_272 (rfl : 272 + 1 = 273) ?_
            refine hp_iadd E dL_law_273 (rfl : 273 + 1 = 274) ?_
            obtain ⟨hi2333, h⟩ := h
            refine va_sld E.x E.b hX hbl hbA (hp_vaS hR0 hR hm.1) hi2333 dL_law_274 ?_
            obtain ⟨hc2334, h⟩ := h
            refine hp_fi (hp_rV E hR hl (m_X7_fault G _ _ _ _ hc2334 h) hc2334 (ci := 6) rfl rfl q1496 q1497 q1498 q82 q1499 nf_X7_fault ⟨Nat.le_of_ble_eq_true rfl, Nat.le_of_ble_eq_true rfl⟩ (rest := [.int z2332]) rfl (Nat.le_of_ble_eq_true rfl) dL_law_275 ⟨by omega, by omega⟩) hR (rfl : 275 + 3 = 278) (fun z2335 S2336 H locs hq hR => ?_)
            obtain ⟨hm2337, h⟩ := hq
            have h := h hm2337
            have hm := hp_mono.tr hm hm2337
            have ms23 := hp_mono.tr ms23 hm2337
            refine hp_icmp_eq E dL_law_278 (rfl : 278 + 3 = 281) (tgt := 1216) (by decide) (fun hb => ?_) (fun hb => ?_)
            · have h := h.1 hb
              exact W.widen (by omega) (by omega) (b1216 _ _ _ _ _ h hl hR hm ms23)
            · have h := h.2 hb
              refine hp_iconst E (0 : Int32) (by decide) dL_law_281 (rfl : 281 + 1 = 282) ?_
              exact h.elim
          refine hp_case (x := ((xs v4.toNatClampNeg) &&& (31 : Int32))) (k := (3 : Int32)) (fun hb => ?_) (fun hn3 => ?_)
          · refine hp_tabIn E hb dL_law_40 (off := 243) (tgt := 283) (by decide) (by decide) rfl (by decide) ?_
            have h := h.2.2.2.1 hb
            refine hp_aload_n E hl 1 rfl 1 rfl dL_law_283 (rfl : 283 + 1 = 284) ?_
            refine lv_aload_n E.x E.b dL_law_284 rfl (lv_at hl 0 rfl) ?_
            refine hp_iload E hl 4 rfl dL_law_285 (rfl : 285 + 2 = 287) ?_
            refine hp_iconst E (1 : Int32) (by decide) dL_law_287 (rfl : 287 + 1 = 288) ?_
            refine hp_iadd E dL_law_288 (rfl : 288 + 1 = 289) ?_
            obtain ⟨hi2338, h⟩ := h
            refine va_sld E.x E.b hX hbl hbA (hp_vaS hR0 hR hm.1) hi2338 dL_law_289 ?_
            obtain ⟨hc2339, h⟩ := h
            refine hp_fi (hp_rV E hR hl (m_X1_halves G _ _ _ _ hc2339 h) hc2339 (ci := 0) rfl rfl q683 q684 q685 q73 q686 nf_X1_halves ⟨Nat.le_of_ble_eq_true rfl, Nat.le_of_ble_eq_true rfl⟩ (rest := []) rfl (Nat.le_of_ble_eq_true rfl) dL_law_290 ⟨by omega, by omega⟩) hR (rfl : 290 + 3 = 293) (fun z2340 S2341 H locs hq hR => ?_)
            obtain ⟨hm2342, h⟩ := hq
            have h := h hm2342
            have hm := hp_mono.tr hm hm2342
            have ms23 := hp_mono.tr ms23 hm2342
            refine hp_aload_n E hl 2 rfl 2 rfl dL_law_293 (rfl : 293 + 1 = 294) ?_
            refine lv_aload_n E.x E.b dL_law_294 rfl (lv_at hl 0 rfl) ?_
            refine hp_iload E hl 4 rfl dL_law_295 (rfl : 295 + 2 = 297) ?_
            refine hp_iconst E (1 : Int32) (by decide) dL_law_297 (rfl : 297 + 1 = 298) ?_
            refine hp_iadd E dL_law_298 (rfl : 298 + 1 = 299) ?_
            obtain ⟨hi2343, h⟩ := h
            refine va_sld E.x E.b hX hbl hbA (hp_vaS hR0 hR hm.1) hi2343 dL_law_299 ?_
            obtain ⟨hc2344, h⟩ := h
            refine hp_fi (hp_rV E hR hl (m_X7_halves G _ _ _ _ hc2344 h) hc2344 (ci := 6) rfl rfl q1500 q1501 q1502 q82 q1503 nf_X7_halves ⟨Nat.le_of_ble_eq_true rfl, Nat.le_of_ble_eq_true rfl⟩ (rest := [.int z2340]) rfl (Nat.le_of_ble_eq_true rfl) dL_law_300 ⟨by omega, by omega⟩) hR (rfl : 300 + 3 = 303) (fun z2345 S2346 H locs hq hR => ?_)
            obtain ⟨hm2347, h⟩ := hq
            have h := h hm2347
            have hm := hp_mono.tr hm hm2347
            have ms23 := hp_mono.tr ms23 hm2347
            refine hp_icmp_eq E dL_law_303 (rfl : 303 + 3 = 306) (tgt := 1216) (by decide) (fun hb => ?_) (fun hb => ?_)
            · have h := h.1 hb
              exact W.widen (by omega) (by omega) (b1216 _ _ _ _ _ h hl hR hm ms23)
            · have h := h.2 hb
              refine hp_iconst E (0 : Int32) (by decide) dL_law_306 (rfl : 306 + 1 = 307) ?_
              exact h.elim
          refine hp_case (x := ((xs v4.toNatClampNeg) &&& (31 : Int32))) (k := (4 : Int32)) (fun hb => ?_) (fun hn4 => ?_)
          · refine hp_tabIn E hb dL_law_40 (off := 268) (tgt := 308) (by decide) (by decide) rfl (by decide) ?_
            have h := h.2.2.2.2.1 hb
            refine hp_aload_n E hl 1 rfl 1 rfl dL_law_308 (rfl : 308 + 1 = 309) ?_
            refine lv_aload_n E.x E.b dL_law_309 rfl (lv_at hl 0 rfl) ?_
            refine hp_iload E hl 4 rfl dL_law_310 (rfl : 310 + 2 = 312) ?_
            refine hp_iconst E (1 : Int32) (by decide) dL_law_312 (rfl : 312 + 1 = 313) ?_
            refine hp_iadd E dL_law_313 (rfl : 313 + 1 = 314) ?_
            obtain ⟨hi2348, h⟩ := h
            refine va_sld E.x E.b hX hbl hbA (hp_vaS hR0 hR hm.1) hi2348 dL_law_314 ?_
            refine lv_aload_n E.x E.b dL_law_315 rfl (lv_at hl 0 rfl) ?_
            refine hp_iload E hl 4 rfl dL_law_316 (rfl : 316 + 2 = 318) ?_
            refine hp_iconst E (2 : Int32) (by decide) dL_law_318 (rfl : 318 + 1 = 319) ?_
            refine hp_iadd E dL_law_319 (rfl : 319 + 1 = 320) ?_
            obtain ⟨hi2349, h⟩ := h
            refine va_sld E.x E.b hX hbl hbA (hp_vaS hR0 hR hm.1) hi2349 dL_law_320 ?_
            obtain ⟨hc2350, h⟩ := h
            refine hp_fi (hp_rV E hR hl (m_X1_life G _ _ _ _ _ hc2350 h) hc2350 (ci := 0) rfl rfl q687 q688 q689 q73 q690 nf_X1_life ⟨Nat.le_of_ble_eq_true rfl, Nat.le_of_ble_eq_true rfl⟩ (rest := []) rfl (Nat.le_of_ble_eq_true rfl) dL_law_321 ⟨by omega, by omega⟩) hR (rfl : 321 + 3 = 324) (fun z2351 S2352 H locs hq hR => ?_)
            obtain ⟨hm2353, h⟩ := hq
            have h := h hm2353
            have hm := hp_mono.tr hm hm2353
            have ms23 := hp_mono.tr ms23 hm2353
            refine hp_aload_n E hl 2 rfl 2 rfl dL_law_324 (rfl : 324 + 1 = 325) ?_
            refine lv_aload_n E.x E.b dL_law_325 rfl (lv_at hl 0 rfl) ?_
            refine hp_iload E hl 4 rfl dL_law_326 (rfl : 326 + 2 = 328) ?_
            refine hp_iconst E (1 : Int32) (by decide) dL_law_328 (rfl : 328 + 1 = 329) ?_
            refine hp_iadd E dL_law_329 (rfl : 329 + 1 = 330) ?_
            obtain ⟨hi2354, h⟩ := h
            refine va_sld E.x E.b hX hbl hbA (hp_vaS hR0 hR hm.1) hi2354 dL_law_330 ?_
            refine lv_aload_n E.x E.b dL_law_331 rfl (lv_at hl 0 rfl) ?_
            refine hp_iload E hl 4 rfl dL_law_332 (rfl : 332 + 2 = 334) ?_
            refine hp_iconst E (2 : Int32) (by decide) dL_law_334 (rfl : 334 + 1 = 335) ?_
            refine hp_iadd E dL_law_335 (rfl : 335 + 1 = 336) ?_
            obtain ⟨hi2355, h⟩ := h
            refine va_sld E.x E.b hX hbl hbA (hp_vaS hR0 hR hm.1) hi2355 dL_law_336 ?_
            obtain ⟨hc2356, h⟩ := h
            refine hp_fi (hp_rV E hR hl (m_X7_life G _ _ _ _ _ hc2356 h) hc2356 (ci := 6) rfl rfl q1507 q1508 q1509 q82 q1510 nf_X7_life ⟨Nat.le_of_ble_eq_true rfl, Nat.le_of_ble_eq_true rfl⟩ (rest := [.int z2351]) rfl (Nat.le_of_ble_eq_true rfl) dL_law_337 ⟨by omega, by omega⟩) hR (rfl : 337 + 3 = 340) (fun z2357 S2358 H locs hq hR => ?_)
            obtain ⟨hm2359, h⟩ := hq
            have h := h hm2359
            have hm := hp_mono.tr hm hm2359
            have ms23 := hp_mono.tr ms23 hm2359
            refine hp_icmp_eq E dL_law_340 (rfl : 340 + 3 = 343) (tgt := 1216) (by decide) (fun hb => ?_) (fun hb => ?_)
            · have h := h.1 hb
              exact W.widen (by omega) (by omega) (b1216 _ _ _ _ _ h hl hR hm ms23)
            · have h := h.2 hb
              refine hp_iconst E (0 : Int32) (by decide) dL_law_343 (rfl : 343 + 1 = 344) ?_
              exact h.elim
          refine hp_case (x := ((xs v4.toNatClampNeg) &&& (31 : Int32))) (k := (5 : Int32)) (fun hb => ?_) (fun hn5 => ?_)
          · refine hp_tabIn E hb dL_law_40 (off := 305) (tgt := 345) (by decide) (by decide) rfl (by decide) ?_
            have h := h.2.2.2.2.2.1 hb
            refine hp_aload_n E hl 1 rfl 1 rfl dL_law_345 (rfl : 345 + 1 = 346) ?_
            refine lv_aload_n E.x E.b dL_law_346 rfl (lv_at hl 0 rfl) ?_
            refine hp_iload E hl 4 rfl dL_law_347 (rfl : 347 + 2 = 349) ?_
            refine hp_iconst E (1 : Int32) (by decide) dL_law_349 (rfl : 349 + 1 = 350) ?_
            refine hp_iadd E dL_law_350 (rfl : 350 + 1 = 351) ?_
            obtain ⟨hi2360, h⟩ := h
            refine va_sld E.x E.b hX hbl hbA (hp_vaS hR0 hR hm.1) hi2360 dL_law_351 ?_
            refine lv_aload_n E.x E.b dL_law_352 rfl (lv_at hl 0 rfl) ?_
            refine hp_iload E hl 4 rfl dL_law_353 (rfl : 353 + 2 = 355) ?_
            refine hp_iconst E (2 : Int32) (by decide) dL_law_355 (rfl : 355 + 1 = 356) ?_
            refine hp_iadd E dL_law_356 (rfl : 356 + 1 = 357) ?_
            obtain ⟨hi2361, h⟩ := h
            refine va_sld E.x E.b hX hbl hbA (hp_vaS hR0 hR hm.1) hi2361 dL_law_357 ?_
            obtain ⟨hc2362, h⟩ := h
            refine hp_fi (hp_rV E hR hl (m_X1_asks G _ _ _ _ _ hc2362 h) hc2362 (ci := 0) rfl rfl q719 q720 q721 q73 q722 nf_X1_asks ⟨Nat.le_of_ble_eq_true rfl, Nat.le_of_ble_eq_true rfl⟩ (rest := []) rfl (Nat.le_of_ble_eq_true rfl) dL_law_358 ⟨by omega, by omega⟩) hR (rfl : 358 + 3 = 361) (fun z2363 Sx H locs hq hR => ?_)
            obtain ⟨hSx, h⟩ := hq
            rw [hSx] at hR
            refine hp_aload_n E hl 2 rfl 2 rfl dL_law_361 (rfl : 361 + 1 = 362) ?_
            refine lv_aload_n E.x E.b dL_law_362 rfl (lv_at hl 0 rfl) ?_
            refine hp_iload E hl 4 rfl dL_law_363 (rfl : 363 + 2 = 365) ?_
            refine hp_iconst E (1 : Int32) (by decide) dL_law_365 (rfl : 365 + 1 = 366) ?_
            refine hp_iadd E dL_law_366 (rfl : 366 + 1 = 367) ?_
            obtain ⟨hi2364, h⟩ := h
            refine va_sld E.x E.b hX hbl hbA (hp_vaS hR0 hR hm.1) hi2364 dL_law_367 ?_
            refine lv_aload_n E.x E.b dL_law_368 rfl (lv_at hl 0 rfl) ?_
            refine hp_iload E hl 4 rfl dL_law_369 (rfl : 369 + 2 = 371) ?_
            refine hp_iconst E (2 : Int32) (by decide) dL_law_371 (rfl : 371 + 1 = 372) ?_
            refine hp_iadd E dL_law_372 (rfl : 372 + 1 = 373) ?_
            obtain ⟨hi2365, h⟩ := h
            refine va_sld E.x E.b hX hbl hbA (hp_vaS hR0 hR hm.1) hi2365 dL_law_373 ?_
            obtain ⟨hc2366, h⟩ := h
            refine hp_fi (hp_rV E hR hl (m_X7_asks G _ _ _ _ _ hc2366 h) hc2366 (ci := 6) rfl rfl q1511 q1512 q1513 q82 q1514 nf_X7_asks ⟨Nat.le_of_ble_eq_true rfl, Nat.le_of_ble_eq_true rfl⟩ (rest := [.int z2363]) rfl (Nat.le_of_ble_eq_true rfl) dL_law_374 ⟨by omega, by omega⟩) hR (rfl : 374 + 3 = 377) (fun z2367 S2368 H locs hq hR => ?_)
            obtain ⟨hm2369, h⟩ := hq
            have h := h hm2369
            have hm := hp_mono.tr hm hm2369
            have ms23 := hp_mono.tr ms23 hm2369
            refine hp_icmp_eq E dL_law_377 (rfl : 377 + 3 = 380) (tgt := 1216) (by decide) (fun hb => ?_) (fun hb => ?_)
            · have h := h.1 hb
              exact W.widen (by omega) (by omega) (b1216 _ _ _ _ _ h hl hR hm ms23)
            · have h := h.2 hb
              refine hp_iconst E (0 : Int32) (by decide) dL_law_380 (rfl : 380 + 1 = 381) ?_
              exact h.elim
          refine hp_case (x := ((xs v4.toNatClampNeg) &&& (31 : Int32))) (k := (6 : Int32)) (fun hb => ?_) (fun hn6 => ?_)
          · refine hp_tabIn E hb dL_law_40 (off := 342) (tgt := 382) (by decide) (by decide) rfl (by decide) ?_
            have h := h.2.2.2.2.2.2.1 hb
            refine hp_aload_n E hl 1 rfl 1 rfl dL_law_382 (rfl : 382 + 1 = 383) ?_
            refine lv_aload_n E.x E.b dL_law_383 rfl (lv_at hl 0 rfl) ?_
            refine hp_iload E hl 4 rfl dL_law_384 (rfl : 384 + 2 = 386) ?_
            refine hp_iconst E (1 : Int32) (by decide) dL_law_386 (rfl : 386 + 1 = 387) ?_
            refine hp_iadd E dL_law_387 (rfl : 387 + 1 = 388) ?_
            obtain ⟨hi2370, h⟩ := h
            refine va_sld E.x E.b hX hbl hbA (hp_vaS hR0 hR hm.1) hi2370 dL_law_388 ?_
            refine lv_aload_n E.x E.b dL_law_389 rfl (lv_at hl 0 rfl) ?_
            refine hp_iload E hl 4 rfl dL_law_390 (rfl : 390 + 2 = 392) ?_
            refine hp_iconst E (2 : Int32) (by decide) dL_law_392 (rfl : 392 + 1 = 393) ?_
            refine hp_iadd E dL_law_393 (rfl : 393 + 1 = 394) ?_
            obtain ⟨hi2371, h⟩ := h
            refine va_sld E.x E.b hX hbl hbA (hp_vaS hR0 hR hm.1) hi2371 dL_law_394 ?_
            refine lv_aload_n E.x E.b dL_law_395 rfl (lv_at hl 0 rfl) ?_
            refine hp_iload E hl 4 rfl dL_law_396 (rfl : 396 + 2 = 398) ?_
            refine hp_iconst E (3 : Int32) (by decide) dL_law_398 (rfl : 398 + 1 = 399) ?_
            refine hp_iadd E dL_law_399 (rfl : 399 + 1 = 400) ?_
            obtain ⟨hi2372, h⟩ := h
            refine va_sld E.x E.b hX hbl hbA (hp_vaS hR0 hR hm.1) hi2372 dL_law_400 ?_
            refine lv_aload_n E.x E.b dL_law_401 rfl (lv_at hl 0 rfl) ?_
            refine hp_iload E hl 4 rfl dL_law_402 (rfl : 402 + 2 = 404) ?_
            refine hp_iconst E (4 : Int32) (by decide) dL_law_404 (rfl : 404 + 1 = 405) ?_
            refine hp_iadd E dL_law_405 (rfl : 405 + 1 = 406) ?_
            obtain ⟨hi2373, h⟩ := h
            refine va_sld E.x E.b hX hbl hbA (hp_vaS hR0 hR hm.1) hi2373 dL_law_406 ?_
            obtain ⟨hc2374, h⟩ := h
            refine hp_fi (hp_rV E hR hl (m_X1_rent G _ _ _ _ _ _ _ hc2374 h) hc2374 (ci := 0) rfl rfl q767 q768 q769 q73 q770 nf_X1_rent ⟨Nat.le_of_ble_eq_true rfl, Nat.le_of_ble_eq_true rfl⟩ (rest := []) rfl (Nat.le_of_ble_eq_true rfl) dL_law_407 ⟨by omega, by omega⟩) hR (rfl : 407 + 3 = 410) (fun z2375 S2376 H locs hq hR => ?_)
            obtain ⟨hm2377, h⟩ := hq
            have h := h hm2377
            have hm := hp_mono.tr hm hm2377
            have ms23 := hp_mono.tr ms23 hm2377
            refine hp_aload_n E hl 2 rfl 2 rfl dL_law_410 (rfl : 410 + 1 = 411) ?_
            refine lv_aload_n E.x E.b dL_law_411 rfl (lv_at hl 0 rfl) ?_
            refine hp_iload E hl 4 rfl dL_law_412 (rfl : 412 + 2 = 414) ?_
            refine hp_iconst E (1 : Int32) (by decide) dL_law_414 (rfl : 414 + 1 = 415) ?_
            refine hp_iadd E dL_law_415 (rfl : 415 + 1 = 416) ?_
            obtain ⟨hi2378, h⟩ := h
            refine va_sld E.x E.b hX hbl hbA (hp_vaS hR0 hR hm.1) hi2378 dL_law_416 ?_
            refine lv_aload_n E.x E.b dL_law_417 rfl (lv_at hl 0 rfl) ?_
            refine hp_iload E hl 4 rfl dL_law_418 (rfl : 418 + 2 = 420) ?_
            refine hp_iconst E (2 : Int32) (by decide) dL_law_420 (rfl : 420 + 1 = 421) ?_
            refine hp_iadd E dL_law_421 (rfl : 421 + 1 = 422) ?_
            obtain ⟨hi2379, h⟩ := h
            refine va_sld E.x E.b hX hbl hbA (hp_vaS hR0 hR hm.1) hi2379 dL_law_422 ?_
            refine lv_aload_n E.x E.b dL_law_423 rfl (lv_at hl 0 rfl) ?_
            refine hp_iload E hl 4 rfl dL_law_424 (rfl : 424 + 2 = 426) ?_
            refine hp_iconst E (3 : Int32) (by decide) dL_law_426 (rfl : 426 + 1 = 427) ?_
            refine hp_iadd E dL_law_427 (rfl : 427 + 1 = 428) ?_
            obtain ⟨hi2380, h⟩ := h
            refine va_sld E.x E.b hX hbl hbA (hp_vaS hR0 hR hm.1) hi2380 dL_law_428 ?_
            refine lv_aload_n E.x E.b dL_law_429 rfl (lv_at hl 0 rfl) ?_
            refine hp_iload E hl 4 rfl dL_law_430 (rfl : 430 + 2 = 432) ?_
            refine hp_iconst E (4 : Int32) (by decide) dL_law_432 (rfl : 432 + 1 = 433) ?_
            refine hp_iadd E dL_law_433 (rfl : 433 + 1 = 434) ?_
            obtain ⟨hi2381, h⟩ := h
            refine va_sld E.x E.b hX hbl hbA (hp_vaS hR0 hR hm.1) hi2381 dL_law_434 ?_
            obtain ⟨hc2382, h⟩ := h
            refine hp_fi (hp_rV E hR hl (m_X7_rent G _ _ _ _ _ _ _ hc2382 h) hc2382 (ci := 6) rfl rfl q1539 q1540 q1541 q82 q1542 nf_X7_rent ⟨Nat.le_of_ble_eq_true rfl, Nat.le_of_ble_eq_true rfl⟩ (rest := [.int z2375]) rfl (Nat.le_of_ble_eq_true rfl) dL_law_435 ⟨by omega, by omega⟩) hR (rfl : 435 + 3 = 438) (fun z2383 S2384 H locs hq hR => ?_)
            obtain ⟨hm2385, h⟩ := hq
            have h := h hm2385
            have hm := hp_mono.tr hm hm2385
            have ms23 := hp_mono.tr ms23 hm2385
            refine hp_icmp_eq E dL_law_438 (rfl : 438 + 3 = 441) (tgt := 1216) (by decide) (fun hb => ?_) (fun hb => ?_)
            · have h := h.1 hb
              exact W.widen (by omega) (by omega) (b1216 _ _ _ _ _ h hl hR hm ms23)
            · have h := h.2 hb
              refine hp_iconst E (0 : Int32) (by decide) dL_law_441 (rfl : 441 + 1 = 442) ?_
              exact h.elim
          refine hp_case (x := ((xs v4.toNatClampNeg) &&& (31 : Int32))) (k := (7 : Int32)) (fun hb => ?_) (fun hn7 => ?_)
          · refine hp_tabIn E hb dL_law_40 (off := 403) (tgt := 443) (by decide) (by decide) rfl (by decide) ?_
            have h := h.2.2.2.2.2.2.2.1 hb
            refine hp_aload_n E hl 1 rfl 1 rfl dL_law_443 (rfl : 443 + 1 = 444) ?_
            refine lv_aload_n E.x E.b dL_law_444 rfl (lv_at hl 0 rfl) ?_
            refine hp_iload E hl 4 rfl dL_law_445 (rfl : 445 + 2 = 447) ?_
            refine hp_iconst E (1 : Int32) (by decide) dL_law_447 (rfl : 447 + 1 = 448) ?_
            refine hp_iadd E dL_law_448 (rfl : 448 + 1 = 449) ?_
            obtain ⟨hi2386, h⟩ := h
            refine va_sld E.x E.b hX hbl hbA (hp_vaS hR0 hR hm.1) hi2386 dL_law_449 ?_
            refine lv_aload_n E.x E.b dL_law_450 rfl (lv_at hl 0 rfl) ?_
            refine hp_iload E hl 4 rfl dL_law_451 (rfl : 451 + 2 = 453) ?_
            refine hp_iconst E (2 : Int32) (by decide) dL_law_453 (rfl : 453 + 1 = 454) ?_
            refine hp_iadd E dL_law_454 (rfl : 454 + 1 = 455) ?_
            obtain ⟨hi2387, h⟩ := h
            refine va_sld E.x E.b hX hbl hbA (hp_vaS hR0 hR hm.1) hi2387 dL_law_455 ?_
            refine lv_aload_n E.x E.b dL_law_456 rfl (lv_at hl 0 rfl) ?_
            refine hp_iload E hl 4 rfl dL_law_457 (rfl : 457 + 2 = 459) ?_
            refine hp_iconst E (3 : Int32) (by decide) dL_law_459 (rfl : 459 + 1 = 460) ?_
            refine hp_iadd E dL_law_460 (rfl : 460 + 1 = 461) ?_
            obtain ⟨hi2388, h⟩ := h
            refine va_sld E.x E.b hX hbl hbA (hp_vaS hR0 hR hm.1) hi2388 dL_law_461 ?_
            refine lv_aload_n E.x E.b dL_law_462 rfl (lv_at hl 0 rfl) ?_
            refine hp_iload E hl 4 rfl dL_law_463 (rfl : 463 + 2 = 465) ?_
            refine hp_iconst E (4 : Int32) (by decide) dL_law_465 (rfl : 465 + 1 = 466) ?_
            refine hp_iadd E dL_law_466 (rfl : 466 + 1 = 467) ?_
            obtain ⟨hi2389, h⟩ := h
            refine va_sld E.x E.b hX hbl hbA (hp_vaS hR0 hR hm.1) hi2389 dL_law_467 ?_
            obtain ⟨hc2390, h⟩ := h
            refine hp_fi (hp_rV E hR hl (m_X1_sell G _ _ _ _ _ _ _ hc2390 h) hc2390 (ci := 0) rfl rfl q835 q836 q837 q73 q838 nf_X1_sell ⟨Nat.le_of_ble_eq_true rfl, Nat.le_of_ble_eq_true rfl⟩ (rest := []) rfl (Nat.le_of_ble_eq_true rfl) dL_law_468 ⟨by omega, by omega⟩) hR (rfl : 468 + 3 = 471) (fun z2391 S2392 H locs hq hR => ?_)
            obtain ⟨hm2393, h⟩ := hq
            have h := h hm2393
            have hm := hp_mono.tr hm hm2393
            have ms23 := hp_mono.tr ms23 hm2393
            refine hp_aload_n E hl 2 rfl 2 rfl dL_law_471 (rfl : 471 + 1 = 472) ?_
            refine lv_aload_n E.x E.b dL_law_472 rfl (lv_at hl 0 rfl) ?_
            refine hp_iload E hl 4 rfl dL_law_473 (rfl : 473 + 2 = 475) ?_
            refine hp_iconst E (1 : Int32) (by decide) dL_law_475 (rfl : 475 + 1 = 476) ?_
            refine hp_iadd E dL_law_476 (rfl : 476 + 1 = 477) ?_
            obtain ⟨hi2394, h⟩ := h
            refine va_sld E.x E.b hX hbl hbA (hp_vaS hR0 hR hm.1) hi2394 dL_law_477 ?_
            refine lv_aload_n E.x E.b dL_law_478 rfl (lv_at hl 0 rfl) ?_
            refine hp_iload E hl 4 rfl dL_law_479 (rfl : 479 + 2 = 481) ?_
            refine hp_iconst E (2 : Int32) (by decide) dL_law_481 (rfl : 481 + 1 = 482) ?_
            refine hp_iadd E dL_law_482 (rfl : 482 + 1 = 483) ?_
            obtain ⟨hi2395, h⟩ := h
            refine va_sld E.x E.b hX hbl hbA (hp_vaS hR0 hR hm.1) hi2395 dL_law_483 ?_
            refine lv_aload_n E.x E.b dL_law_484 rfl (lv_at hl 0 rfl) ?_
            refine hp_iload E hl 4 rfl dL_law_485 (rfl : 485 + 2 = 487) ?_
            refine hp_iconst E (3 : Int32) (by decide) dL_law_487 (rfl : 487 + 1 = 488) ?_
            refine hp_iadd E dL_law_488 (rfl : 488 + 1 = 489) ?_
            obtain ⟨hi2396, h⟩ := h
            refine va_sld E.x E.b hX hbl hbA (hp_vaS hR0 hR hm.1) hi2396 dL_law_489 ?_
            refine lv_aload_n E.x E.b dL_law_490 rfl (lv_at hl 0 rfl) ?_
            refine hp_iload E hl 4 rfl dL_law_491 (rfl : 491 + 2 = 493) ?_
            refine hp_iconst E (4 : Int32) (by decide) dL_law_493 (rfl : 493 + 1 = 494) ?_
            refine hp_iadd E dL_law_494 (rfl : 494 + 1 = 495) ?_
            obtain ⟨hi2397, h⟩ := h
            refine va_sld E.x E.b hX hbl hbA (hp_vaS hR0 hR hm.1) hi2397 dL_law_495 ?_
            obtain ⟨hc2398, h⟩ := h
            refine hp_fi (hp_rV E hR hl (m_X7_sell G _ _ _ _ _ _ _ hc2398 h) hc2398 (ci := 6) rfl rfl q1546 q1547 q1548 q82 q1549 nf_X7_sell ⟨Nat.le_of_ble_eq_true rfl, Nat.le_of_ble_eq_true rfl⟩ (rest := [.int z2391]) rfl (Nat.le_of_ble_eq_true rfl) dL_law_496 ⟨by omega, by omega⟩) hR (rfl : 496 + 3 = 499) (fun z2399 S2400 H locs hq hR => ?_)
            obtain ⟨hm2401, h⟩ := hq
            have h := h hm2401
            have hm := hp_mono.tr hm hm2401
            have ms23 := hp_mono.tr ms23 hm2401
            refine hp_icmp_eq E dL_law_499 (rfl : 499 + 3 = 502) (tgt := 1216) (by decide) (fun hb => ?_) (fun hb => ?_)
            · have h := h.1 hb
              exact W.widen (by omega) (by omega) (b1216 _ _ _ _ _ h hl hR hm ms23)
            · have h := h.2 hb
              refine hp_iconst E (0 : Int32) (by decide) dL_law_502 (rfl : 502 + 1 = 503) ?_
              exact h.elim
          refine hp_case (x := ((xs v4.toNatClampNeg) &&& (31 : Int32))) (k := (8 : Int32)) (fun hb => ?_) (fun hn8 => ?_)
          · refine hp_tabIn E hb dL_law_40 (off := 464) (tgt := 504) (by decide) (by decide) rfl (by decide) ?_
            have h := h.2.2.2.2.2.2.2.2.1 hb
            refine hp_aload_n E hl 1 rfl 1 rfl dL_law_504 (rfl : 504 + 1 = 505) ?_
            refine lv_aload_n E.x E.b dL_law_505 rfl (lv_at hl 0 rfl) ?_
            refine hp_iload E hl 4 rfl dL_law_506 (rfl : 506 + 2 = 508) ?_
            refine hp_iconst E (1 : Int32) (by decide) dL_law_508 (rfl : 508 + 1 = 509) ?_
            refine hp_iadd E dL_law_509 (rfl : 509 + 1 = 510) ?_
            obtain ⟨hi2402, h⟩ := h
            refine va_sld E.x E.b hX hbl hbA (hp_vaS hR0 hR hm.1) hi2402 dL_law_510 ?_
            refine lv_aload_n E.x E.b dL_law_511 rfl (lv_at hl 0 rfl) ?_
            refine hp_iload E hl 4 rfl dL_law_512 (rfl : 512 + 2 = 514) ?_
            refine hp_iconst E (2 : Int32) (by decide) dL_law_514 (rfl : 514 + 1 = 515) ?_
            refine hp_iadd E dL_law_515 (rfl : 515 + 1 = 516) ?_
            obtain ⟨hi2403, h⟩ := h
            refine va_sld E.x E.b hX hbl hbA (hp_vaS hR0 hR hm.1) hi2403 dL_law_516 ?_
            refine lv_aload_n E.x E.b dL_law_517 rfl (lv_at hl 0 rfl) ?_
            refine hp_iload E hl 4 rfl dL_law_518 (rfl : 518 + 2 = 520) ?_
            refine hp_iconst E (3 : Int32) (by decide) dL_law_520 (rfl : 520 + 1 = 521) ?_
            refine hp_iadd E dL_law_521 (rfl : 521 + 1 = 522) ?_
            obtain ⟨hi2404, h⟩ := h
            refine va_sld E.x E.b hX hbl hbA (hp_vaS hR0 hR hm.1) hi2404 dL_law_522 ?_
            obtain ⟨hc2405, h⟩ := h
            refine hp_fi (hp_rV E hR hl (m_X1_parts G _ _ _ _ _ _ hc2405 h) hc2405 (ci := 0) rfl rfl q875 q876 q877 q73 q878 nf_X1_parts ⟨Nat.le_of_ble_eq_true rfl, Nat.le_of_ble_eq_true rfl⟩ (rest := []) rfl (Nat.le_of_ble_eq_true rfl) dL_law_523 ⟨by omega, by omega⟩) hR (rfl : 523 + 3 = 526) (fun z2406 Sx H locs hq hR => ?_)
            obtain ⟨hSx, h⟩ := hq
            rw [hSx] at hR
            refine hp_aload_n E hl 2 rfl 2 rfl dL_law_526 (rfl : 526 + 1 = 527) ?_
            refine lv_aload_n E.x E.b dL_law_527 rfl (lv_at hl 0 rfl) ?_
            refine hp_iload E hl 4 rfl dL_law_528 (rfl : 528 + 2 = 530) ?_
            refine hp_iconst E (1 : Int32) (by decide) dL_law_530 (rfl : 530 + 1 = 531) ?_
            refine hp_iadd E dL_law_531 (rfl : 531 + 1 = 532) ?_
            obtain ⟨hi2407, h⟩ := h
            refine va_sld E.x E.b hX hbl hbA (hp_vaS hR0 hR hm.1) hi2407 dL_law_532 ?_
            refine lv_aload_n E.x E.b dL_law_533 rfl (lv_at hl 0 rfl) ?_
            refine hp_iload E hl 4 rfl dL_law_534 (rfl : 534 + 2 = 536) ?_
            refine hp_iconst E (2 : Int32) (by decide) dL_law_536 (rfl : 536 + 1 = 537) ?_
            refine hp_iadd E dL_law_537 (rfl : 537 + 1 = 538) ?_
            obtain ⟨hi2408, h⟩ := h
            refine va_sld E.x E.b hX hbl hbA (hp_vaS hR0 hR hm.1) hi2408 dL_law_538 ?_
            refine lv_aload_n E.x E.b dL_law_539 rfl (lv_at hl 0 rfl) ?_
            refine hp_iload E hl 4 rfl dL_law_540 (rfl : 540 + 2 = 542) ?_
            refine hp_iconst E (3 : Int32) (by decide) dL_law_542 (rfl : 542 + 1 = 543) ?_
            refine hp_iadd E dL_law_543 (rfl : 543 + 1 = 544) ?_
            obtain ⟨hi2409, h⟩ := h
            refine va_sld E.x E.b hX hbl hbA (hp_vaS hR0 hR hm.1) hi2409 dL_law_544 ?_
            obtain ⟨hc2410, h⟩ := h
            refine hp_fi (hp_rV E hR hl (m_X7_parts G _ _ _ _ _ _ hc2410 h) hc2410 (ci := 6) rfl rfl q1558 q1559 q1560 q82 q1561 nf_X7_parts ⟨Nat.le_of_ble_eq_true rfl, Nat.le_of_ble_eq_true rfl⟩ (rest := [.int z2406]) rfl (Nat.le_of_ble_eq_true rfl) dL_law_545 ⟨by omega, by omega⟩) hR (rfl : 545 + 3 = 548) (fun z2411 S2412 H locs hq hR => ?_)
            obtain ⟨hm2413, h⟩ := hq
            have h := h hm2413
            have hm := hp_mono.tr hm hm2413
            have ms23 := hp_mono.tr ms23 hm2413
            refine hp_icmp_eq E dL_law_548 (rfl : 548 + 3 = 551) (tgt := 1216) (by decide) (fun hb => ?_) (fun hb => ?_)
            · have h := h.1 hb
              exact W.widen (by omega) (by omega) (b1216 _ _ _ _ _ h hl hR hm ms23)
            · have h := h.2 hb
              refine hp_iconst E (0 : Int32) (by decide) dL_law_551 (rfl : 551 + 1 = 552) ?_
              exact h.elim
          refine hp_case (x := ((xs v4.toNatClampNeg) &&& (31 : Int32))) (k := (9 : Int32)) (fun hb => ?_) (fun hn9 => ?_)
          · refine hp_tabIn E hb dL_law_40 (off := 513) (tgt := 553) (by decide) (by decide) rfl (by decide) ?_
            have h := h.2.2.2.2.2.2.2.2.2.1 hb
            refine hp_aload_n E hl 1 rfl 1 rfl dL_law_553 (rfl : 553 + 1 = 554) ?_
            refine lv_aload_n E.x E.b dL_law_554 rfl (lv_at hl 0 rfl) ?_
            refine hp_iload E hl 4 rfl dL_law_555 (rfl : 555 + 2 = 557) ?_
            refine hp_iconst E (1 : Int32) (by decide) dL_law_557 (rfl : 557 + 1 = 558) ?_
            refine hp_iadd E dL_law_558 (rfl : 558 + 1 = 559) ?_
            obtain ⟨hi2414, h⟩ := h
            refine va_sld E.x E.b hX hbl hbA (hp_vaS hR0 hR hm.1) hi2414 dL_law_559 ?_
            refine lv_aload_n E.x E.b dL_law_560 rfl (lv_at hl 0 rfl) ?_
            refine hp_iload E hl 4 rfl dL_law_561 (rfl : 561 + 2 = 563) ?_
            refine hp_iconst E (2 : Int32) (by decide) dL_law_563 (rfl : 563 + 1 = 564) ?_
            refine hp_iadd E dL_law_564 (rfl : 564 + 1 = 565) ?_
            obtain ⟨hi2415, h⟩ := h
            refine va_sld E.x E.b hX hbl hbA (hp_vaS hR0 hR hm.1) hi2415 dL_law_565 ?_
            refine lv_aload_n E.x E.b dL_law_566 rfl (lv_at hl 0 rfl) ?_
            refine hp_iload E hl 4 rfl dL_law_567 (rfl : 567 + 2 = 569) ?_
            refine hp_iconst E (3 : Int32) (by decide) dL_law_569 (rfl : 569 + 1 = 570) ?_
            refine hp_iadd E dL_law_570 (rfl : 570 + 1 = 571) ?_
            obtain ⟨hi2416, h⟩ := h
            refine va_sld E.x E.b hX hbl hbA (hp_vaS hR0 hR hm.1) hi2416 dL_law_571 ?_
            refine hp_if_eq E dL_law_572 (rfl : 572 + 3 = 575) (tgt := 579) (by decide) (fun hb => ?_) (fun hb => ?_)
            · have h := h.1 hb
              refine hp_iconst E (0 : Int32) (by decide) dL_law_579 (rfl : 579 + 1 = 580) ?_
              exact W.widen (by omega) (by omega) (b580 _ _ _ _ _ _ _ _ _ h hl hR hm ms23)
            · have h := h.2 hb
              refine hp_iconst E (1 : Int32) (by decide) dL_law_575 (rfl : 575 + 1 = 576) ?_
              refine hp_goto E (tgt := 580) dL_law_576 (by decide) ?_
              exact W.widen (by omega) (by omega) (b580 _ _ _ _ _ _ _ _ _ h hl hR hm ms23)
          refine hp_case (x := ((xs v4.toNatClampNeg) &&& (31 : Int32))) (k := (10 : Int32)) (fun hb => ?_) (fun hn10 => ?_)
          · refine hp_tabIn E hb dL_law_40 (off := 578) (tgt := 618) (by decide) (by decide) rfl (by decide) ?_
            have h := h.2.2.2.2.2.2.2.2.2.2.1 hb
            refine hp_aload_n E hl 1 rfl 1 rfl dL_law_618 (rfl : 618 + 1 = 619) ?_
            refine lv_aload_n E.x E.b dL_law_619 rfl (lv_at hl 0 rfl) ?_
            refine hp_iload E hl 4 rfl dL_law_620 (rfl : 620 + 2 = 622) ?_
            refine hp_iconst E (1 : Int32) (by decide) dL_law_622 (rfl : 622 + 1 = 623) ?_
            refine hp_iadd E dL_law_623 (rfl : 623 + 1 = 624) ?_
            obtain ⟨hi2417, h⟩ := h
            refine va_sld E.x E.b hX hbl hbA (hp_vaS hR0 hR hm.1) hi2417 dL_law_624 ?_
            obtain ⟨hc2418, h⟩ := h
            refine hp_fi (hp_rV E hR hl (m_X1_strike G _ _ _ _ hc2418 h) hc2418 (ci := 0) rfl rfl q927 q928 q929 q73 q930 nf_X1_strike ⟨Nat.le_of_ble_eq_true rfl, Nat.le_of_ble_eq_true rfl⟩ (rest := []) rfl (Nat.le_of_ble_eq_true rfl) dL_law_625 ⟨by omega, by omega⟩) hR (rfl : 625 + 3 = 628) (fun z2419 S2420 H locs hq hR => ?_)
            obtain ⟨hm2421, h⟩ := hq
            have h := h hm2421
            have hm := hp_mono.tr hm hm2421
            have ms23 := hp_mono.tr ms23 hm2421
            refine hp_aload_n E hl 2 rfl 2 rfl dL_law_628 (rfl : 628 + 1 = 629) ?_
            refine lv_aload_n E.x E.b dL_law_629 rfl (lv_at hl 0 rfl) ?_
            refine hp_iload E hl 4 rfl dL_law_630 (rfl : 630 + 2 = 632) ?_
            refine hp_iconst E (1 : Int32) (by decide) dL_law_632 (rfl : 632 + 1 = 633) ?_
            refine hp_iadd E dL_law_633 (rfl : 633 + 1 = 634) ?_
            obtain ⟨hi2422, h⟩ := h
            refine va_sld E.x E.b hX hbl hbA (hp_vaS hR0 hR hm.1) hi2422 dL_law_634 ?_
            obtain ⟨hc2423, h⟩ := h
            refine hp_fi (hp_rV E hR hl (m_X7_strike G _ _ _ _ hc2423 h) hc2423 (ci := 6) rfl rfl q1573 q1574 q1575 q82 q1576 nf_X7_strike ⟨Nat.le_of_ble_eq_true rfl, Nat.le_of_ble_eq_true rfl⟩ (rest := [.int z2419]) rfl (Nat.le_of_ble_eq_true rfl) dL_law_635 ⟨by omega, by omega⟩) hR (rfl : 635 + 3 = 638) (fun z2424 S2425 H locs hq hR => ?_)
            obtain ⟨hm2426, h⟩ := hq
            have h := h hm2426
            have hm := hp_mono.tr hm hm2426
            have ms23 := hp_mono.tr ms23 hm2426
            refine hp_icmp_eq E dL_law_638 (rfl : 638 + 3 = 641) (tgt := 1216) (by decide) (fun hb => ?_) (fun hb => ?_)
            · have h := h.1 hb
              exact W.widen (by omega) (by omega) (b1216 _ _ _ _ _ h hl hR hm ms23)
            · have h := h.2 hb
              refine hp_iconst E (0 : Int32) (by decide) dL_law_641 (rfl : 641 + 1 = 642) ?_
              exact h.elim
          refine hp_case (x := ((xs v4.toNatClampNeg) &&& (31 : Int32))) (k := (11 : Int32)) (fun hb => ?_) (fun hn11 => ?_)
          · refine hp_tabIn E hb dL_law_40 (off := 603) (tgt := 643) (by decide) (by decide) rfl (by decide) ?_
            have h := h.2.2.2.2.2.2.2.2.2.2.2.1 hb
            refine hp_aload_n E hl 1 rfl 1 rfl dL_law_643 (rfl : 643 + 1 = 644) ?_
            refine lv_aload_n E.x E.b dL_law_644 rfl (lv_at hl 0 rfl) ?_
            refine hp_iload E hl 4 rfl dL_law_645 (rfl : 645 + 2 = 647) ?_
            refine hp_iconst E (1 : Int32) (by decide) dL_law_647 (rfl : 647 + 1 = 648) ?_
            refine hp_iadd E dL_law_648 (rfl : 648 + 1 = 649) ?_
            obtain ⟨hi2427, h⟩ := h
            refine va_sld E.x E.b hX hbl hbA (hp_vaS hR0 hR hm.1) hi2427 dL_law_649 ?_
            refine lv_aload_n E.x E.b dL_law_650 rfl (lv_at hl 0 rfl) ?_
            refine hp_iload E hl 4 rfl dL_law_651 (rfl : 651 + 2 = 653) ?_
            refine hp_iconst E (2 : Int32) (by decide) dL_law_653 (rfl : 653 + 1 = 654) ?_
            refine hp_iadd E dL_law_654 (rfl : 654 + 1 = 655) ?_
            obtain ⟨hi2428, h⟩ := h
            refine va_sld E.x E.b hX hbl hbA (hp_vaS hR0 hR hm.1) hi2428 dL_law_655 ?_
            obtain ⟨hc2429, h⟩ := h
            refine hp_fi (hp_rV E hR hl (m_X1_dead G _ _ _ _ _ hc2429 h) hc2429 (ci := 0) rfl rfl q942 q943 q944 q73 q945 nf_X1_dead ⟨Nat.le_of_ble_eq_true rfl, Nat.le_of_ble_eq_true rfl⟩ (rest := []) rfl (Nat.le_of_ble_eq_true rfl) dL_law_656 ⟨by omega, by omega⟩) hR (rfl : 656 + 3 = 659) (fun z2430 S2431 H locs hq hR => ?_)
            obtain ⟨hm2432, h⟩ := hq
            have h := h hm2432
            have hm := hp_mono.tr hm hm2432
            have ms23 := hp_mono.tr ms23 hm2432
            refine hp_aload_n E hl 2 rfl 2 rfl dL_law_659 (rfl : 659 + 1 = 660) ?_
            refine lv_aload_n E.x E.b dL_law_660 rfl (lv_at hl 0 rfl) ?_
            refine hp_iload E hl 4 rfl dL_law_661 (rfl : 661 + 2 = 663) ?_
            refine hp_iconst E (1 : Int32) (by decide) dL_law_663 (rfl : 663 + 1 = 664) ?_
            refine hp_iadd E dL_law_664 (rfl : 664 + 1 = 665) ?_
            obtain ⟨hi2433, h⟩ := h
            refine va_sld E.x E.b hX hbl hbA (hp_vaS hR0 hR hm.1) hi2433 dL_law_665 ?_
            refine lv_aload_n E.x E.b dL_law_666 rfl (lv_at hl 0 rfl) ?_
            refine hp_iload E hl 4 rfl dL_law_667 (rfl : 667 + 2 = 669) ?_
            refine hp_iconst E (2 : Int32) (by decide) dL_law_669 (rfl : 669 + 1 = 670) ?_
            refine hp_iadd E dL_law_670 (rfl : 670 + 1 = 671) ?_
            obtain ⟨hi2434, h⟩ := h
            refine va_sld E.x E.b hX hbl hbA (hp_vaS hR0 hR hm.1) hi2434 dL_law_671 ?_
            obtain ⟨hc2435, h⟩ := h
            refine hp_fi (hp_rV E hR hl (m_X7_dead G _ _ _ _ _ hc2435 h) hc2435 (ci := 6) rfl rfl q1577 q1578 q1579 q82 q1580 nf_X7_dead ⟨Nat.le_of_ble_eq_true rfl, Nat.le_of_ble_eq_true rfl⟩ (rest := [.int z2430]) rfl (Nat.le_of_ble_eq_true rfl) dL_law_672 ⟨by omega, by omega⟩) hR (rfl : 672 + 3 = 675) (fun z2436 S2437 H locs hq hR => ?_)
            obtain ⟨hm2438, h⟩ := hq
            have h := h hm2438
            have hm := hp_mono.tr hm hm2438
            have ms23 := hp_mono.tr ms23 hm2438
            refine hp_icmp_eq E dL_law_675 (rfl : 675 + 3 = 678) (tgt := 1216) (by decide) (fun hb => ?_) (fun hb => ?_)
            · have h := h.1 hb
              exact W.widen (by omega) (by omega) (b1216 _ _ _ _ _ h hl hR hm ms23)
            · have h := h.2 hb
              refine hp_iconst E (0 : Int32) (by decide) dL_law_678 (rfl : 678 + 1 = 679) ?_
              exact h.elim
          refine hp_case (x := ((xs v4.toNatClampNeg) &&& (31 : Int32))) (k := (12 : Int32)) (fun hb => ?_) (fun hn12 => ?_)
          · refine hp_tabIn E hb dL_law_40 (off := 640) (tgt := 680) (by decide) (by decide) rfl (by decide) ?_
            have h := h.2.2.2.2.2.2.2.2.2.2.2.2.1 hb
            refine hp_aload_n E hl 1 rfl 1 rfl dL_law_680 (rfl : 680 + 1 = 681) ?_
            refine lv_aload_n E.x E.b dL_law_681 rfl (lv_at hl 0 rfl) ?_
            refine hp_iload E hl 4 rfl dL_law_682 (rfl : 682 + 2 = 684) ?_
            refine hp_iconst E (1 : Int32) (by decide) dL_law_684 (rfl : 684 + 1 = 685) ?_
            refine hp_iadd E dL_law_685 (rfl : 685 + 1 = 686) ?_
            obtain ⟨hi2439, h⟩ := h
            refine va_sld E.x E.b hX hbl hbA (hp_vaS hR0 hR hm.1) hi2439 dL_law_686 ?_
            refine lv_aload_n E.x E.b dL_law_687 rfl (lv_at hl 0 rfl) ?_
            refine hp_iload E hl 4 rfl dL_law_688 (rfl : 688 + 2 = 690) ?_
            refine hp_iconst E (2 : Int32) (by decide) dL_law_690 (rfl : 690 + 1 = 691) ?_
            refine hp_iadd E dL_law_691 (rfl : 691 + 1 = 692) ?_
            obtain ⟨hi2440, h⟩ := h
            refine va_sld E.x E.b hX hbl hbA (hp_vaS hR0 hR hm.1) hi2440 dL_law_692 ?_
            obtain ⟨hc2441, h⟩ := h
            refine hp_fi (hp_rV E hR hl (m_X1_holds G _ _ _ _ _ hc2441 h) hc2441 (ci := 0) rfl rfl q977 q978 q979 q73 q980 nf_X1_holds ⟨Nat.le_of_ble_eq_true rfl, Nat.le_of_ble_eq_true rfl⟩ (rest := []) rfl (Nat.le_of_ble_eq_true rfl) dL_law_693 ⟨by omega, by omega⟩) hR (rfl : 693 + 3 = 696) (fun z2442 S2443 H locs hq hR => ?_)
            obtain ⟨hm2444, h⟩ := hq
            have h := h hm2444
            have hm := hp_mono.tr hm hm2444
            have ms23 := hp_mono.tr ms23 hm2444
            refine hp_aload_n E hl 2 rfl 2 rfl dL_law_696 (rfl : 696 + 1 = 697) ?_
            refine lv_aload_n E.x E.b dL_law_697 rfl (lv_at hl 0 rfl) ?_
            refine hp_iload E hl 4 rfl dL_law_698 (rfl : 698 + 2 = 700) ?_
            refine hp_iconst E (1 : Int32) (by decide) dL_law_700 (rfl : 700 + 1 = 701) ?_
            refine hp_iadd E dL_law_701 (rfl : 701 + 1 = 702) ?_
            obtain ⟨hi2445, h⟩ := h
            refine va_sld E.x E.b hX hbl hbA (hp_vaS hR0 hR hm.1) hi2445 dL_law_702 ?_
            refine lv_aload_n E.x E.b dL_law_703 rfl (lv_at hl 0 rfl) ?_
            refine hp_iload E hl 4 rfl dL_law_704 (rfl : 704 + 2 = 706) ?_
            refine hp_iconst E (2 : Int32) (by decide) dL_law_706 (rfl : 706 + 1 = 707) ?_
            refine hp_iadd E dL_law_707 (rfl : 707 + 1 = 708) ?_
            obtain ⟨hi2446, h⟩ := h
            refine va_sld E.x E.b hX hbl hbA (hp_vaS hR0 hR hm.1) hi2446 dL_law_708 ?_
            obtain ⟨hc2447, h⟩ := h
            refine hp_fi (hp_rV E hR hl (m_X7_holds G _ _ _ _ _ hc2447 h) hc2447 (ci := 6) rfl rfl q1585 q1586 q1587 q82 q1588 nf_X7_holds ⟨Nat.le_of_ble_eq_true rfl, Nat.le_of_ble_eq_true rfl⟩ (rest := [.int z2442]) rfl (Nat.le_of_ble_eq_true rfl) dL_law_709 ⟨by omega, by omega⟩) hR (rfl : 709 + 3 = 712) (fun z2448 S2449 H locs hq hR => ?_)
            obtain ⟨hm2450, h⟩ := hq
            have h := h hm2450
            have hm := hp_mono.tr hm hm2450
            have ms23 := hp_mono.tr ms23 hm2450
            refine hp_icmp_eq E dL_law_712 (rfl : 712 + 3 = 715) (tgt := 1216) (by decide) (fun hb => ?_) (fun hb => ?_)
            · have h := h.1 hb
              exact W.widen (by omega) (by omega) (b1216 _ _ _ _ _ h hl hR hm ms23)
            · have h := h.2 hb
              refine hp_iconst E (0 : Int32) (by decide) dL_law_715 (rfl : 715 + 1 = 716) ?_
              exact h.elim
          refine hp_case (x := ((xs v4.toNatClampNeg) &&& (31 : Int32))) (k := (13 : Int32)) (fun hb => ?_) (fun hn13 => ?_)
          · refine hp_tabIn E hb dL_law_40 (off := 677) (tgt := 717) (by decide) (by decide) rfl (by decide) ?_
            have h := h.2.2.2.2.2.2.2.2.2.2.2.2.2.1 hb
            refine hp_aload_n E hl 1 rfl 1 rfl dL_law_717 (rfl : 717 + 1 = 718) ?_
            refine lv_aload_n E.x E.b dL_law_718 rfl (lv_at hl 0 rfl) ?_
            refine hp_iload E hl 4 rfl dL_law_719 (rfl : 719 + 2 = 721) ?_
            refine hp_iconst E (1 : Int32) (by decide) dL_law_721 (rfl : 721 + 1 = 722) ?_
            refine hp_iadd E dL_law_722 (rfl : 722 + 1 = 723) ?_
            obtain ⟨hi2451, h⟩ := h
            refine va_sld E.x E.b hX hbl hbA (hp_vaS hR0 hR hm.1) hi2451 dL_law_723 ?_
            refine lv_aload_n E.x E.b dL_law_724 rfl (lv_at hl 0 rfl) ?_
            refine hp_iload E hl 4 rfl dL_law_725 (rfl : 725 + 2 = 727) ?_
            refine hp_iconst E (2 : Int32) (by decide) dL_law_727 (rfl : 727 + 1 = 728) ?_
            refine hp_iadd E dL_law_728 (rfl : 728 + 1 = 729) ?_
            obtain ⟨hi2452, h⟩ := h
            refine va_sld E.x E.b hX hbl hbA (hp_vaS hR0 hR hm.1) hi2452 dL_law_729 ?_
            refine lv_aload_n E.x E.b dL_law_730 rfl (lv_at hl 0 rfl) ?_
            refine hp_iload E hl 4 rfl dL_law_731 (rfl : 731 + 2 = 733) ?_
            refine hp_iconst E (3 : Int32) (by decide) dL_law_733 (rfl : 733 + 1 = 734) ?_
            refine hp_iadd E dL_law_734 (rfl : 734 + 1 = 735) ?_
            obtain ⟨hi2453, h⟩ := h
            refine va_sld E.x E.b hX hbl hbA (hp_vaS hR0 hR hm.1) hi2453 dL_law_735 ?_
            obtain ⟨hc2454, h⟩ := h
            refine hp_fi (hp_rV E hR hl (m_X1_paid G _ _ _ _ _ _ hc2454 h) hc2454 (ci := 0) rfl rfl q992 q993 q994 q73 q995 nf_X1_paid ⟨Nat.le_of_ble_eq_true rfl, Nat.le_of_ble_eq_true rfl⟩ (rest := []) rfl (Nat.le_of_ble_eq_true rfl) dL_law_736 ⟨by omega, by omega⟩) hR (rfl : 736 + 3 = 739) (fun z2455 S2456 H locs hq hR => ?_)
            obtain ⟨hm2457, h⟩ := hq
            have h := h hm2457
            have hm := hp_mono.tr hm hm2457
            have ms23 := hp_mono.tr ms23 hm2457
            refine hp_aload_n E hl 2 rfl 2 rfl dL_law_739 (rfl : 739 + 1 = 740) ?_
            refine lv_aload_n E.x E.b dL_law_740 rfl (lv_at hl 0 rfl) ?_
            refine hp_iload E hl 4 rfl dL_law_741 (rfl : 741 + 2 = 743) ?_
            refine hp_iconst E (1 : Int32) (by decide) dL_law_743 (rfl : 743 + 1 = 744) ?_
            refine hp_iadd E dL_law_744 (rfl : 744 + 1 = 745) ?_
            obtain ⟨hi2458, h⟩ := h
            refine va_sld E.x E.b hX hbl hbA (hp_vaS hR0 hR hm.1) hi2458 dL_law_745 ?_
            refine lv_aload_n E.x E.b dL_law_746 rfl (lv_at hl 0 rfl) ?_
            refine hp_iload E hl 4 rfl dL_law_747 (rfl : 747 + 2 = 749) ?_
            refine hp_iconst E (2 : Int32) (by decide) dL_law_749 (rfl : 749 + 1 = 750) ?_
            refine hp_iadd E dL_law_750 (rfl : 750 + 1 = 751) ?_
            obtain ⟨hi2459, h⟩ := h
            refine va_sld E.x E.b hX hbl hbA (hp_vaS hR0 hR hm.1) hi2459 dL_law_751 ?_
            refine lv_aload_n E.x E.b dL_law_752 rfl (lv_at hl 0 rfl) ?_
            refine hp_iload E hl 4 rfl dL_law_753 (rfl : 753 + 2 = 755) ?_
            refine hp_iconst E (3 : Int32) (by decide) dL_law_755 (rfl : 755 + 1 = 756) ?_
            refine hp_iadd E dL_law_756 (rfl : 756 + 1 = 757) ?_
            obtain ⟨hi2460, h⟩ := h
            refine va_sld E.x E.b hX hbl hbA (hp_vaS hR0 hR hm.1) hi2460 dL_law_757 ?_
            obtain ⟨hc2461, h⟩ := h
            refine hp_fi (hp_rV E hR hl (m_X7_paid G _ _ _ _ _ _ hc2461 h) hc2461 (ci := 6) rfl rfl q1593 q1594 q1595 q82 q1596 nf_X7_paid ⟨Nat.le_of_ble_eq_true rfl, Nat.le_of_ble_eq_true rfl⟩ (rest := [.int z2455]) rfl (Nat.le_of_ble_eq_true rfl) dL_law_758 ⟨by omega, by omega⟩) hR (rfl : 758 + 3 = 761) (fun z2462 S2463 H locs hq hR => ?_)
            obtain ⟨hm2464, h⟩ := hq
            have h := h hm2464
            have hm := hp_mono.tr hm hm2464
            have ms23 := hp_mono.tr ms23 hm2464
            refine hp_icmp_eq E dL_law_761 (rfl : 761 + 3 = 764) (tgt := 1216) (by decide) (fun hb => ?_) (fun hb => ?_)
            · have h := h.1 hb
              exact W.widen (by omega) (by omega) (b1216 _ _ _ _ _ h hl hR hm ms23)
            · have h := h.2 hb
              refine hp_iconst E (0 : Int32) (by decide) dL_law_764 (rfl : 764 + 1 = 765) ?_
              exact h.elim
          refine hp_case (x := ((xs v4.toNatClampNeg) &&& (31 : Int32))) (k := (14 : Int32)) (fun hb => ?_) (fun hn14 => ?_)
          · refine hp_tabIn E hb dL_law_40 (off := 726) (tgt := 766) (by decide) (by decide) rfl (by decide) ?_
            have h := h.2.2.2.2.2.2.2.2.2.2.2.2.2.2.1 hb
            refine hp_aload_n E hl 1 rfl 1 rfl dL_law_766 (rfl : 766 + 1 = 767) ?_
            refine lv_aload_n E.x E.b dL_law_767 rfl (lv_at hl 0 rfl) ?_
            refine hp_iload E hl 4 rfl dL_law_768 (rfl : 768 + 2 = 770) ?_
            refine hp_iconst E (1 : Int32) (by decide) dL_law_770 (rfl : 770 + 1 = 771) ?_
            refine hp_iadd E dL_law_771 (rfl : 771 + 1 = 772) ?_
            obtain ⟨hi2465, h⟩ := h
            refine va_sld E.x E.b hX hbl hbA (hp_vaS hR0 hR hm.1) hi2465 dL_law_772 ?_
            refine lv_aload_n E.x E.b dL_law_773 rfl (lv_at hl 0 rfl) ?_
            refine hp_iload E hl 4 rfl dL_law_774 (rfl : 774 + 2 = 776) ?_
            refine hp_iconst E (2 : Int32) (by decide) dL_law_776 (rfl : 776 + 1 = 777) ?_
            refine hp_iadd E dL_law_777 (rfl : 777 + 1 = 778) ?_
            obtain ⟨hi2466, h⟩ := h
            refine va_sld E.x E.b hX hbl hbA (hp_vaS hR0 hR hm.1) hi2466 dL_law_778 ?_
            obtain ⟨hc2467, h⟩ := h
            refine hp_fi (hp_rV E hR hl (m_X1_got G _ _ _ _ _ hc2467 h) hc2467 (ci := 0) rfl rfl q1033 q1034 q1035 q73 q1036 nf_X1_got ⟨Nat.le_of_ble_eq_true rfl, Nat.le_of_ble_eq_true rfl⟩ (rest := []) rfl (Nat.le_of_ble_eq_true rfl) dL_law_779 ⟨by omega, by omega⟩) hR (rfl : 779 + 3 = 782) (fun z2468 S2469 H locs hq hR => ?_)
            obtain ⟨hm2470, h⟩ := hq
            have h := h hm2470
            have hm := hp_mono.tr hm hm2470
            have ms23 := hp_mono.tr ms23 hm2470
            refine hp_aload_n E hl 2 rfl 2 rfl dL_law_782 (rfl : 782 + 1 = 783) ?_
            refine lv_aload_n E.x E.b dL_law_783 rfl (lv_at hl 0 rfl) ?_
            refine hp_iload E hl 4 rfl dL_law_784 (rfl : 784 + 2 = 786) ?_
            refine hp_iconst E (1 : Int32) (by decide) dL_law_786 (rfl : 786 + 1 = 787) ?_
            refine hp_iadd E dL_law_787 (rfl : 787 + 1 = 788) ?_
            obtain ⟨hi2471, h⟩ := h
            refine va_sld E.x E.b hX hbl hbA (hp_vaS hR0 hR hm.1) hi2471 dL_law_788 ?_
            refine lv_aload_n E.x E.b dL_law_789 rfl (lv_at hl 0 rfl) ?_
            refine hp_iload E hl 4 rfl dL_law_790 (rfl : 790 + 2 = 792) ?_
            refine hp_iconst E (2 : Int32) (by decide) dL_law_792 (rfl : 792 + 1 = 793) ?_
            refine hp_iadd E dL_law_793 (rfl : 793 + 1 = 794) ?_
            obtain ⟨hi2472, h⟩ := h
            refine va_sld E.x E.b hX hbl hbA (hp_vaS hR0 hR hm.1) hi2472 dL_law_794 ?_
            obtain ⟨hc2473, h⟩ := h
            refine hp_fi (hp_rV E hR hl (m_X7_got G _ _ _ _ _ hc2473 h) hc2473 (ci := 6) rfl rfl q1617 q1618 q1619 q82 q1620 nf_X7_got ⟨Nat.le_of_ble_eq_true rfl, Nat.le_of_ble_eq_true rfl⟩ (rest := [.int z2468]) rfl (Nat.le_of_ble_eq_true rfl) dL_law_795 ⟨by omega, by omega⟩) hR (rfl : 795 + 3 = 798) (fun z2474 S2475 H locs hq hR => ?_)
            obtain ⟨hm2476, h⟩ := hq
            have h := h hm2476
            have hm := hp_mono.tr hm hm2476
            have ms23 := hp_mono.tr ms23 hm2476
            refine hp_icmp_eq E dL_law_798 (rfl : 798 + 3 = 801) (tgt := 1216) (by decide) (fun hb => ?_) (fun hb => ?_)
            · have h := h.1 hb
              exact W.widen (by omega) (by omega) (b1216 _ _ _ _ _ h hl hR hm ms23)
            · have h := h.2 hb
              refine hp_iconst E (0 : Int32) (by decide) dL_law_801 (rfl : 801 + 1 = 802) ?_
              exact h.elim
          refine hp_case (x := ((xs v4.toNatClampNeg) &&& (31 : Int32))) (k := (15 : Int32)) (fun hb => ?_) (fun hn15 => ?_)
          · refine hp_tabIn E hb dL_law_40 (off := 763) (tgt := 803) (by decide) (by decide) rfl (by decide) ?_
            have h := h.2.2.2.2.2.2.2.2.2.2.2.2.2.2.2.1 hb
            refine hp_aload_n E hl 1 rfl 1 rfl dL_law_803 (rfl : 803 + 1 = 804) ?_
            refine lv_aload_n E.x E.b dL_law_804 rfl (lv_at hl 0 rfl) ?_
            refine hp_iload E hl 4 rfl dL_law_805 (rfl : 805 + 2 = 807) ?_
            refine hp_iconst E (1 : Int32) (by decide) dL_law_807 (rfl : 807 + 1 = 808) ?_
            refine hp_iadd E dL_law_808 (rfl : 808 + 1 = 809) ?_
            obtain ⟨hi2477, h⟩ := h
            refine va_sld E.x E.b hX hbl hbA (hp_vaS hR0 hR hm.1) hi2477 dL_law_809 ?_
            refine lv_aload_n E.x E.b dL_law_810 rfl (lv_at hl 0 rfl) ?_
            refine hp_iload E hl 4 rfl dL_law_811 (rfl : 811 + 2 = 813) ?_
            refine hp_iconst E (2 : Int32) (by decide) dL_law_813 (rfl : 813 + 1 = 814) ?_
            refine hp_iadd E dL_law_814 (rfl : 814 + 1 = 815) ?_
            obtain ⟨hi2478, h⟩ := h
            refine va_sld E.x E.b hX hbl hbA (hp_vaS hR0 hR hm.1) hi2478 dL_law_815 ?_
            obtain ⟨hc2479, h⟩ := h
            refine hp_fi (hp_rV E hR hl (m_X1_owed G _ _ _ _ _ hc2479 h) hc2479 (ci := 0) rfl rfl q1037 q1038 q1039 q73 q1040 nf_X1_owed ⟨Nat.le_of_ble_eq_true rfl, Nat.le_of_ble_eq_true rfl⟩ (rest := []) rfl (Nat.le_of_ble_eq_true rfl) dL_law_816 ⟨by omega, by omega⟩) hR (rfl : 816 + 3 = 819) (fun z2480 S2481 H locs hq hR => ?_)
            obtain ⟨hm2482, h⟩ := hq
            have h := h hm2482
            have hm := hp_mono.tr hm hm2482
            have ms23 := hp_mono.tr ms23 hm2482
            refine hp_aload_n E hl 2 rfl 2 rfl dL_law_819 (rfl : 819 + 1 = 820) ?_
            refine lv_aload_n E.x E.b dL_law_820 rfl (lv_at hl 0 rfl) ?_
            refine hp_iload E hl 4 rfl dL_law_821 (rfl : 821 + 2 = 823) ?_
            refine hp_iconst E (1 : Int32) (by decide) dL_law_823 (rfl : 823 + 1 = 824) ?_
            refine hp_iadd E dL_law_824 (rfl : 824 + 1 = 825) ?_
            obtain ⟨hi2483, h⟩ := h
            refine va_sld E.x E.b hX hbl hbA (hp_vaS hR0 hR hm.1) hi2483 dL_law_825 ?_
            refine lv_aload_n E.x E.b dL_law_826 rfl (lv_at hl 0 rfl) ?_
            refine hp_iload E hl 4 rfl dL_law_827 (rfl : 827 + 2 = 829) ?_
            refine hp_iconst E (2 : Int32) (by decide) dL_law_829 (rfl : 829 + 1 = 830) ?_
            refine hp_iadd E dL_law_830 (rfl : 830 + 1 = 831) ?_
            obtain ⟨hi2484, h⟩ := h
            refine va_sld E.x E.b hX hbl hbA (hp_vaS hR0 hR hm.1) hi2484 dL_law_831 ?_
            obtain ⟨hc2485, h⟩ := h
            refine hp_fi (hp_rV E hR hl (m_X7_owed G _ _ _ _ _ hc2485 h) hc2485 (ci := 6) rfl rfl q1621 q1622 q1623 q82 q1624 nf_X7_owed ⟨Nat.le_of_ble_eq_true rfl, Nat.le_of_ble_eq_true rfl⟩ (rest := [.int z2480]) rfl (Nat.le_of_ble_eq_true rfl) dL_law_832 ⟨by omega, by omega⟩) hR (rfl : 832 + 3 = 835) (fun z2486 S2487 H locs hq hR => ?_)
            obtain ⟨hm2488, h⟩ := hq
            have h := h hm2488
            have hm := hp_mono.tr hm hm2488
            have ms23 := hp_mono.tr ms23 hm2488
            refine hp_icmp_eq E dL_law_835 (rfl : 835 + 3 = 838) (tgt := 1216) (by decide) (fun hb => ?_) (fun hb => ?_)
            · have h := h.1 hb
              exact W.widen (by omega) (by omega) (b1216 _ _ _ _ _ h hl hR hm ms23)
            · have h := h.2 hb
              refine hp_iconst E (0 : Int32) (by decide) dL_law_838 (rfl : 838 + 1 = 839) ?_
              exact h.elim
          refine hp_case (x := ((xs v4.toNatClampNeg) &&& (31 : Int32))) (k := (16 : Int32)) (fun hb => ?_) (fun hn16 => ?_)
          · refine hp_tabIn E hb dL_law_40 (off := 800) (tgt := 840) (by decide) (by decide) rfl (by decide) ?_
            have h := h.2.2.2.2.2.2.2.2.2.2.2.2.2.2.2.2.1 hb
            refine hp_aload_n E hl 1 rfl 1 rfl dL_law_840 (rfl : 840 + 1 = 841) ?_
            refine lv_aload_n E.x E.b dL_law_841 rfl (lv_at hl 0 rfl) ?_
            refine hp_iload E hl 4 rfl dL_law_842 (rfl : 842 + 2 = 844) ?_
            refine hp_iconst E (1 : Int32) (by decide) dL_law_844 (rfl : 844 + 1 = 845) ?_
            refine hp_iadd E dL_law_845 (rfl : 845 + 1 = 846) ?_
            obtain ⟨hi2489, h⟩ := h
            refine va_sld E.x E.b hX hbl hbA (hp_vaS hR0 hR hm.1) hi2489 dL_law_846 ?_
            refine lv_aload_n E.x E.b dL_law_847 rfl (lv_at hl 0 rfl) ?_
            refine hp_iload E hl 4 rfl dL_law_848 (rfl : 848 + 2 = 850) ?_
            refine hp_iconst E (2 : Int32) (by decide) dL_law_850 (rfl : 850 + 1 = 851) ?_
            refine hp_iadd E dL_law_851 (rfl : 851 + 1 = 852) ?_
            obtain ⟨hi2490, h⟩ := h
            refine va_sld E.x E.b hX hbl hbA (hp_vaS hR0 hR hm.1) hi2490 dL_law_852 ?_
            obtain ⟨hc2491, h⟩ := h
            refine hp_fi (hp_rV E hR hl (m_X1_state G _ _ _ _ _ hc2491 h) hc2491 (ci := 0) rfl rfl q1045 q1046 q1047 q73 q1048 nf_X1_state ⟨Nat.le_of_ble_eq_true rfl, Nat.le_of_ble_eq_true rfl⟩ (rest := []) rfl (Nat.le_of_ble_eq_true rfl) dL_law_853 ⟨by omega, by omega⟩) hR (rfl : 853 + 3 = 856) (fun z2492 S2493 H locs hq hR => ?_)
            obtain ⟨hm2494, h⟩ := hq
            have h := h hm2494
            have hm := hp_mono.tr hm hm2494
            have ms23 := hp_mono.tr ms23 hm2494
            refine hp_aload_n E hl 2 rfl 2 rfl dL_law_856 (rfl : 856 + 1 = 857) ?_
            refine lv_aload_n E.x E.b dL_law_857 rfl (lv_at hl 0 rfl) ?_
            refine hp_iload E hl 4 rfl dL_law_858 (rfl : 858 + 2 = 860) ?_
            refine hp_iconst E (1 : Int32) (by decide) dL_law_860 (rfl : 860 + 1 = 861) ?_
            refine hp_iadd E dL_law_861 (rfl : 861 + 1 = 862) ?_
            obtain ⟨hi2495, h⟩ := h
            refine va_sld E.x E.b hX hbl hbA (hp_vaS hR0 hR hm.1) hi2495 dL_law_862 ?_
            refine lv_aload_n E.x E.b dL_law_863 rfl (lv_at hl 0 rfl) ?_
            refine hp_iload E hl 4 rfl dL_law_864 (rfl : 864 + 2 = 866) ?_
            refine hp_iconst E (2 : Int32) (by decide) dL_law_866 (rfl : 866 + 1 = 867) ?_
            refine hp_iadd E dL_law_867 (rfl : 867 + 1 = 868) ?_
            obtain ⟨hi2496, h⟩ := h
            refine va_sld E.x E.b hX hbl hbA (hp_vaS hR0 hR hm.1) hi2496 dL_law_868 ?_
            obtain ⟨hc2497, h⟩ := h
            refine hp_fi (hp_rV E hR hl (m_X7_state G _ _ _ _ _ hc2497 h) hc2497 (ci := 6) rfl rfl q1629 q1630 q1631 q82 q1632 nf_X7_state ⟨Nat.le_of_ble_eq_true rfl, Nat.le_of_ble_eq_true rfl⟩ (rest := [.int z2492]) rfl (Nat.le_of_ble_eq_true rfl) dL_law_869 ⟨by omega, by omega⟩) hR (rfl : 869 + 3 = 872) (fun z2498 S2499 H locs hq hR => ?_)
            obtain ⟨hm2500, h⟩ := hq
            have h := h hm2500
            have hm := hp_mono.tr hm hm2500
            have ms23 := hp_mono.tr ms23 hm2500
            refine hp_icmp_eq E dL_law_872 (rfl : 872 + 3 = 875) (tgt := 1216) (by decide) (fun hb => ?_) (fun hb => ?_)
            · have h := h.1 hb
              exact W.widen (by omega) (by omega) (b1216 _ _ _ _ _ h hl hR hm ms23)
            · have h := h.2 hb
              refine hp_iconst E (0 : Int32) (by decide) dL_law_875 (rfl : 875 + 1 = 876) ?_
              exact h.elim
          refine hp_case (x := ((xs v4.toNatClampNeg) &&& (31 : Int32))) (k := (17 : Int32)) (fun hb => ?_) (fun hn17 => ?_)
          · refine hp_tabIn E hb dL_law_40 (off := 837) (tgt := 877) (by decide) (by decide) rfl (by decide) ?_
            have h := h.2.2.2.2.2.2.2.2.2.2.2.2.2.2.2.2.2.1 hb
            refine hp_aload_n E hl 1 rfl 1 rfl dL_law_877 (rfl : 877 + 1 = 878) ?_
            refine lv_aload_n E.x E.b dL_law_878 rfl (lv_at hl 0 rfl) ?_
            refine hp_iload E hl 4 rfl dL_law_879 (rfl : 879 + 2 = 881) ?_
            refine hp_iconst E (1 : Int32) (by decide) dL_law_881 (rfl : 881 + 1 = 882) ?_
            refine hp_iadd E dL_law_882 (rfl : 882 + 1 = 883) ?_
            obtain ⟨hi2501, h⟩ := h
            refine va_sld E.x E.b hX hbl hbA (hp_vaS hR0 hR hm.1) hi2501 dL_law_883 ?_
            refine lv_aload_n E.x E.b dL_law_884 rfl (lv_at hl 0 rfl) ?_
            refine hp_iload E hl 4 rfl dL_law_885 (rfl : 885 + 2 = 887) ?_
            refine hp_iconst E (2 : Int32) (by decide) dL_law_887 (rfl : 887 + 1 = 888) ?_
            refine hp_iadd E dL_law_888 (rfl : 888 + 1 = 889) ?_
            obtain ⟨hi2502, h⟩ := h
            refine va_sld E.x E.b hX hbl hbA (hp_vaS hR0 hR hm.1) hi2502 dL_law_889 ?_
            refine lv_aload_n E.x E.b dL_law_890 rfl (lv_at hl 0 rfl) ?_
            refine hp_iload E hl 4 rfl dL_law_891 (rfl : 891 + 2 = 893) ?_
            refine hp_iconst E (3 : Int32) (by decide) dL_law_893 (rfl : 893 + 1 = 894) ?_
            refine hp_iadd E dL_law_894 (rfl : 894 + 1 = 895) ?_
            obtain ⟨hi2503, h⟩ := h
            refine va_sld E.x E.b hX hbl hbA (hp_vaS hR0 hR hm.1) hi2503 dL_law_895 ?_
            obtain ⟨hc2504, h⟩ := h
            refine hp_fi (hp_rV E hR hl (m_X1_sold G _ _ _ _ _ _ hc2504 h) hc2504 (ci := 0) rfl rfl q1049 q1050 q1051 q73 q1052 nf_X1_sold ⟨Nat.le_of_ble_eq_true rfl, Nat.le_of_ble_eq_true rfl⟩ (rest := []) rfl (Nat.le_of_ble_eq_true rfl) dL_law_896 ⟨by omega, by omega⟩) hR (rfl : 896 + 3 = 899) (fun z2505 S2506 H locs hq hR => ?_)
            obtain ⟨hm2507, h⟩ := hq
            have h := h hm2507
            have hm := hp_mono.tr hm hm2507
            have ms23 := hp_mono.tr ms23 hm2507
            refine hp_aload_n E hl 2 rfl 2 rfl dL_law_899 (rfl : 899 + 1 = 900) ?_
            refine lv_aload_n E.x E.b dL_law_900 rfl (lv_at hl 0 rfl) ?_
            refine hp_iload E hl 4 rfl dL_law_901 (rfl : 901 + 2 = 903) ?_
            refine hp_iconst E (1 : Int32) (by decide) dL_law_903 (rfl : 903 + 1 = 904) ?_
            refine hp_iadd E dL_law_904 (rfl : 904 + 1 = 905) ?_
            obtain ⟨hi2508, h⟩ := h
            refine va_sld E.x E.b hX hbl hbA (hp_vaS hR0 hR hm.1) hi2508 dL_law_905 ?_
            refine lv_aload_n E.x E.b dL_law_906 rfl (lv_at hl 0 rfl) ?_
            refine hp_iload E hl 4 rfl dL_law_907 (rfl : 907 + 2 = 909) ?_
            refine hp_iconst E (2 : Int32) (by decide) dL_law_909 (rfl : 909 + 1 = 910) ?_
            refine hp_iadd E dL_law_910 (rfl : 910 + 1 = 911) ?_
            obtain ⟨hi2509, h⟩ := h
            refine va_sld E.x E.b hX hbl hbA (hp_vaS hR0 hR hm.1) hi2509 dL_law_911 ?_
            refine lv_aload_n E.x E.b dL_law_912 rfl (lv_at hl 0 rfl) ?_
            refine hp_iload E hl 4 rfl dL_law_913 (rfl : 913 + 2 = 915) ?_
            refine hp_iconst E (3 : Int32) (by decide) dL_law_915 (rfl : 915 + 1 = 916) ?_
            refine hp_iadd E dL_law_916 (rfl : 916 + 1 = 917) ?_
            obtain ⟨hi2510, h⟩ := h
            refine va_sld E.x E.b hX hbl hbA (hp_vaS hR0 hR hm.1) hi2510 dL_law_917 ?_
            obtain ⟨hc2511, h⟩ := h
            refine hp_fi (hp_rV E hR hl (m_X7_sold G _ _ _ _ _ _ hc2511 h) hc2511 (ci := 6) rfl rfl q1633 q1634 q1635 q82 q1636 nf_X7_sold ⟨Nat.le_of_ble_eq_true rfl, Nat.le_of_ble_eq_true rfl⟩ (rest := [.int z2505]) rfl (Nat.le_of_ble_eq_true rfl) dL_law_918 ⟨by omega, by omega⟩) hR (rfl : 918 + 3 = 921) (fun z2512 S2513 H locs hq hR => ?_)
            obtain ⟨hm2514, h⟩ := hq
            have h := h hm2514
            have hm := hp_mono.tr hm hm2514
            have ms23 := hp_mono.tr ms23 hm2514
            refine hp_icmp_eq E dL_law_921 (rfl : 921 + 3 = 924) (tgt := 1216) (by decide) (fun hb => ?_) (fun hb => ?_)
            · have h := h.1 hb
              exact W.widen (by omega) (by omega) (b1216 _ _ _ _ _ h hl hR hm ms23)
            · have h := h.2 hb
              refine hp_iconst E (0 : Int32) (by decide) dL_law_924 (rfl : 924 + 1 = 925) ?_
              exact h.elim
          refine hp_case (x := ((xs v4.toNatClampNeg) &&& (31 : Int32))) (k := (18 : Int32)) (fun hb => ?_) (fun hn18 => ?_)
          · refine hp_tabIn E hb dL_law_40 (off := 886) (tgt := 926) (by decide) (by decide) rfl (by decide) ?_
            have h := h.2.2.2.2.2.2.2.2.2.2.2.2.2.2.2.2.2.2.1 hb
            refine hp_aload_n E hl 1 rfl 1 rfl dL_law_926 (rfl : 926 + 1 = 927) ?_
            refine lv_aload_n E.x E.b dL_law_927 rfl (lv_at hl 0 rfl) ?_
            refine hp_iload E hl 4 rfl dL_law_928 (rfl : 928 + 2 = 930) ?_
            refine hp_iconst E (1 : Int32) (by decide) dL_law_930 (rfl : 930 + 1 = 931) ?_
            refine hp_iadd E dL_law_931 (rfl : 931 + 1 = 932) ?_
            obtain ⟨hi2515, h⟩ := h
            refine va_sld E.x E.b hX hbl hbA (hp_vaS hR0 hR hm.1) hi2515 dL_law_932 ?_
            refine lv_aload_n E.x E.b dL_law_933 rfl (lv_at hl 0 rfl) ?_
            refine hp_iload E hl 4 rfl dL_law_934 (rfl : 934 + 2 = 936) ?_
            refine hp_iconst E (2 : Int32) (by decide) dL_law_936 (rfl : 936 + 1 = 937) ?_
            refine hp_iadd E dL_law_937 (rfl : 937 + 1 = 938) ?_
            obtain ⟨hi2516, h⟩ := h
            refine va_sld E.x E.b hX hbl hbA (hp_vaS hR0 hR hm.1) hi2516 dL_law_938 ?_
            refine lv_aload_n E.x E.b dL_law_939 rfl (lv_at hl 0 rfl) ?_
            refine hp_iload E hl 4 rfl dL_law_940 (rfl : 940 + 2 = 942) ?_
            refine hp_iconst E (3 : Int32) (by decide) dL_law_942 (rfl : 942 + 1 = 943) ?_
            refine hp_iadd E dL_law_943 (rfl : 943 + 1 = 944) ?_
            obtain ⟨hi2517, h⟩ := h
            refine va_sld E.x E.b hX hbl hbA (hp_vaS hR0 hR hm.1) hi2517 dL_law_944 ?_
            refine lv_aload_n E.x E.b dL_law_945 rfl (lv_at hl 0 rfl) ?_
            refine hp_iload E hl 4 rfl dL_law_946 (rfl : 946 + 2 = 948) ?_
            refine hp_iconst E (4 : Int32) (by decide) dL_law_948 (rfl : 948 + 1 = 949) ?_
            refine hp_iadd E dL_law_949 (rfl : 949 + 1 = 950) ?_
            obtain ⟨hi2518, h⟩ := h
            refine va_sld E.x E.b hX hbl hbA (hp_vaS hR0 hR hm.1) hi2518 dL_law_950 ?_
            obtain ⟨hc2519, h⟩ := h
            refine hp_fi (hp_rV E hR hl (m_X1_own G _ _ _ _ _ _ _ hc2519 h) hc2519 (ci := 0) rfl rfl q1053 q1054 q1055 q73 q1056 nf_X1_own ⟨Nat.le_of_ble_eq_true rfl, Nat.le_of_ble_eq_true rfl⟩ (rest := []) rfl (Nat.le_of_ble_eq_true rfl) dL_law_951 ⟨by omega, by omega⟩) hR (rfl : 951 + 3 = 954) (fun z2520 S2521 H locs hq hR => ?_)
            obtain ⟨hm2522, h⟩ := hq
            have h := h hm2522
            have hm := hp_mono.tr hm hm2522
            have ms23 := hp_mono.tr ms23 hm2522
            refine hp_aload_n E hl 2 rfl 2 rfl dL_law_954 (rfl : 954 + 1 = 955) ?_
            refine lv_aload_n E.x E.b dL_law_955 rfl (lv_at hl 0 rfl) ?_
            refine hp_iload E hl 4 rfl dL_law_956 (rfl : 956 + 2 = 958) ?_
            refine hp_iconst E (1 : Int32) (by decide) dL_law_958 (rfl : 958 + 1 = 959) ?_
            refine hp_iadd E dL_law_959 (rfl : 959 + 1 = 960) ?_
            obtain ⟨hi2523, h⟩ := h
            refine va_sld E.x E.b hX hbl hbA (hp_vaS hR0 hR hm.1) hi2523 dL_law_960 ?_
            refine lv_aload_n E.x E.b dL_law_961 rfl (lv_at hl 0 rfl) ?_
            refine hp_iload E hl 4 rfl dL_law_962 (rfl : 962 + 2 = 964) ?_
            refine hp_iconst E (2 : Int32) (by decide) dL_law_964 (rfl : 964 + 1 = 965) ?_
            refine hp_iadd E dL_law_965 (rfl : 965 + 1 = 966) ?_
            obtain ⟨hi2524, h⟩ := h
            refine va_sld E.x E.b hX hbl hbA (hp_vaS hR0 hR hm.1) hi2524 dL_law_966 ?_
            refine lv_aload_n E.x E.b dL_law_967 rfl (lv_at hl 0 rfl) ?_
            refine hp_iload E hl 4 rfl dL_law_968 (rfl : 968 + 2 = 970) ?_
            refine hp_iconst E (3 : Int32) (by decide) dL_law_970 (rfl : 970 + 1 = 971) ?_
            refine hp_iadd E dL_law_971 (rfl : 971 + 1 = 972) ?_
            obtain ⟨hi2525, h⟩ := h
            refine va_sld E.x E.b hX hbl hbA (hp_vaS hR0 hR hm.1) hi2525 dL_law_972 ?_
            refine lv_aload_n E.x E.b dL_law_973 rfl (lv_at hl 0 rfl) ?_
            refine hp_iload E hl 4 rfl dL_law_974 (rfl : 974 + 2 = 976) ?_
            refine hp_iconst E (4 : Int32) (by decide) dL_law_976 (rfl : 976 + 1 = 977) ?_
            refine hp_iadd E dL_law_977 (rfl : 977 + 1 = 978) ?_
            obtain ⟨hi2526, h⟩ := h
            refine va_sld E.x E.b hX hbl hbA (hp_vaS hR0 hR hm.1) hi2526 dL_law_978 ?_
            obtain ⟨hc2527, h⟩ := h
            refine hp_fi (hp_rV E hR hl (m_X7_own G _ _ _ _ _ _ _ hc2527 h) hc2527 (ci := 6) rfl rfl q1637 q1638 q1639 q82 q1640 nf_X7_own ⟨Nat.le_of_ble_eq_true rfl, Nat.le_of_ble_eq_true rfl⟩ (rest := [.int z2520]) rfl (Nat.le_of_ble_eq_true rfl) dL_law_979 ⟨by omega, by omega⟩) hR (rfl : 979 + 3 = 982) (fun z2528 S2529 H locs hq hR => ?_)
            obtain ⟨hm2530, h⟩ := hq
            have h := h hm2530
            have hm := hp_mono.tr hm hm2530
            have ms23 := hp_mono.tr ms23 hm2530
            refine hp_icmp_eq E dL_law_982 (rfl : 982 + 3 = 985) (tgt := 1216) (by decide) (fun hb => ?_) (fun hb => ?_)
            · have h := h.1 hb
              exact W.widen (by omega) (by omega) (b1216 _ _ _ _ _ h hl hR hm ms23)
            · have h := h.2 hb
              refine hp_iconst E (0 : Int32) (by decide) dL_law_985 (rfl : 985 + 1 = 986) ?_
              exact h.elim
          refine hp_case (x := ((xs v4.toNatClampNeg) &&& (31 : Int32))) (k := (19 : Int32)) (fun hb => ?_) (fun hn19 => ?_)
          · refine hp_tabIn E hb dL_law_40 (off := 947) (tgt := 987) (by decide) (by decide) rfl (by decide) ?_
            have h := h.2.2.2.2.2.2.2.2.2.2.2.2.2.2.2.2.2.2.2.1 hb
            refine hp_aload_n E hl 1 rfl 1 rfl dL_law_987 (rfl : 987 + 1 = 988) ?_
            refine lv_aload_n E.x E.b dL_law_988 rfl (lv_at hl 0 rfl) ?_
            refine hp_iload E hl 4 rfl dL_law_989 (rfl : 989 + 2 = 991) ?_
            refine hp_iconst E (1 : Int32) (by decide) dL_law_991 (rfl : 991 + 1 = 992) ?_
            refine hp_iadd E dL_law_992 (rfl : 992 + 1 = 993) ?_
            obtain ⟨hi2531, h⟩ := h
            refine va_sld E.x E.b hX hbl hbA (hp_vaS hR0 hR hm.1) hi2531 dL_law_993 ?_
            refine lv_aload_n E.x E.b dL_law_994 rfl (lv_at hl 0 rfl) ?_
            refine hp_iload E hl 4 rfl dL_law_995 (rfl : 995 + 2 = 997) ?_
            refine hp_iconst E (2 : Int32) (by decide) dL_law_997 (rfl : 997 + 1 = 998) ?_
            refine hp_iadd E dL_law_998 (rfl : 998 + 1 = 999) ?_
            obtain ⟨hi2532, h⟩ := h
            refine va_sld E.x E.b hX hbl hbA (hp_vaS hR0 hR hm.1) hi2532 dL_law_999 ?_
            refine lv_aload_n E.x E.b dL_law_1000 rfl (lv_at hl 0 rfl) ?_
            refine hp_iload E hl 4 rfl dL_law_1001 (rfl : 1001 + 2 = 1003) ?_
            refine hp_iconst E (3 : Int32) (by decide) dL_law_1003 (rfl : 1003 + 1 = 1004) ?_
            refine hp_iadd E dL_law_1004 (rfl : 1004 + 1 = 1005) ?_
            obtain ⟨hi2533, h⟩ := h
            refine va_sld E.x E.b hX hbl hbA (hp_vaS hR0 hR hm.1) hi2533 dL_law_1005 ?_
            obtain ⟨hc2534, h⟩ := h
            refine hp_fi (hp_rV E hR hl (m_X1_worth G _ _ _ _ _ _ hc2534 h) hc2534 (ci := 0) rfl rfl q1082 q1083 q1084 q73 q1085 nf_X1_worth ⟨Nat.le_of_ble_eq_true rfl, Nat.le_of_ble_eq_true rfl⟩ (rest := []) rfl (Nat.le_of_ble_eq_true rfl) dL_law_1006 ⟨by omega, by omega⟩) hR (rfl : 1006 + 3 = 1009) (fun z2535 S2536 H locs hq hR => ?_)
            obtain ⟨hm2537, h⟩ := hq
            have h := h hm2537
            have hm := hp_mono.tr hm hm2537
            have ms23 := hp_mono.tr ms23 hm2537
            refine hp_aload_n E hl 2 rfl 2 rfl dL_law_1009 (rfl : 1009 + 1 = 1010) ?_
            refine lv_aload_n E.x E.b dL_law_1010 rfl (lv_at hl 0 rfl) ?_
            refine hp_iload E hl 4 rfl dL_law_1011 (rfl : 1011 + 2 = 1013) ?_
            refine hp_iconst E (1 : Int32) (by decide) dL_law_1013 (rfl : 1013 + 1 = 1014) ?_
            refine hp_iadd E dL_law_1014 (rfl : 1014 + 1 = 1015) ?_
            obtain ⟨hi2538, h⟩ := h
            refine va_sld E.x E.b hX hbl hbA (hp_vaS hR0 hR hm.1) hi2538 dL_law_1015 ?_
            refine lv_aload_n E.x E.b dL_law_1016 rfl (lv_at hl 0 rfl) ?_
            refine hp_iload E hl 4 rfl dL_law_1017 (rfl : 1017 + 2 = 1019) ?_
            refine hp_iconst E (2 : Int32) (by decide) dL_law_1019 (rfl : 1019 + 1 = 1020) ?_
            refine hp_iadd E dL_law_1020 (rfl : 1020 + 1 = 1021) ?_
            obtain ⟨hi2539, h⟩ := h
            refine va_sld E.x E.b hX hbl hbA (hp_vaS hR0 hR hm.1) hi2539 dL_law_1021 ?_
            refine lv_aload_n E.x E.b dL_law_1022 rfl (lv_at hl 0 rfl) ?_
            refine hp_iload E hl 4 rfl dL_law_1023 (rfl : 1023 + 2 = 1025) ?_
            refine hp_iconst E (3 : Int32) (by decide) dL_law_1025 (rfl : 1025 + 1 = 1026) ?_
            refine hp_iadd E dL_law_1026 (rfl : 1026 + 1 = 1027) ?_
            obtain ⟨hi2540, h⟩ := h
            refine va_sld E.x E.b hX hbl hbA (hp_vaS hR0 hR hm.1) hi2540 dL_law_1027 ?_
            obtain ⟨hc2541, h⟩ := h
            refine hp_fi (hp_rV E hR hl (m_X7_worth G _ _ _ _ _ _ hc2541 h) hc2541 (ci := 6) rfl rfl q1649 q1650 q1651 q82 q1652 nf_X7_worth ⟨Nat.le_of_ble_eq_true rfl, Nat.le_of_ble_eq_true rfl⟩ (rest := [.int z2535]) rfl (Nat.le_of_ble_eq_true rfl) dL_law_1028 ⟨by omega, by omega⟩) hR (rfl : 1028 + 3 = 1031) (fun z2542 S2543 H locs hq hR => ?_)
            obtain ⟨hm2544, h⟩ := hq
            have h := h hm2544
            have hm := hp_mono.tr hm hm2544
            have ms23 := hp_mono.tr ms23 hm2544
            refine hp_icmp_eq E dL_law_1031 (rfl : 1031 + 3 = 1034) (tgt := 1216) (by decide) (fun hb => ?_) (fun hb => ?_)
            · have h := h.1 hb
              exact W.widen (by omega) (by omega) (b1216 _ _ _ _ _ h hl hR hm ms23)
            · have h := h.2 hb
              refine hp_iconst E (0 : Int32) (by decide) dL_law_1034 (rfl : 1034 + 1 = 1035) ?_
              exact h.elim
          refine hp_case (x := ((xs v4.toNatClampNeg) &&& (31 : Int32))) (k := (20 : Int32)) (fun hb => ?_) (fun hn20 => ?_)
          · refine hp_tabIn E hb dL_law_40 (off := 996) (tgt := 1036) (by decide) (by decide) rfl (by decide) ?_
            have h := h.2.2.2.2.2.2.2.2.2.2.2.2.2.2.2.2.2.2.2.2.1 hb
            refine hp_aload_n E hl 1 rfl 1 rfl dL_law_1036 (rfl : 1036 + 1 = 1037) ?_
            refine lv_aload_n E.x E.b dL_law_1037 rfl (lv_at hl 0 rfl) ?_
            refine hp_iload E hl 4 rfl dL_law_1038 (rfl : 1038 + 2 = 1040) ?_
            refine hp_iconst E (1 : Int32) (by decide) dL_law_1040 (rfl : 1040 + 1 = 1041) ?_
            refine hp_iadd E dL_law_1041 (rfl : 1041 + 1 = 1042) ?_
            obtain ⟨hi2545, h⟩ := h
            refine va_sld E.x E.b hX hbl hbA (hp_vaS hR0 hR hm.1) hi2545 dL_law_1042 ?_
            obtain ⟨hc2546, h⟩ := h
            refine hp_fi (hp_rV E hR hl (m_X1_names G _ _ _ _ hc2546 h) hc2546 (ci := 0) rfl rfl q1107 q1108 q1109 q73 q1110 nf_X1_names ⟨Nat.le_of_ble_eq_true rfl, Nat.le_of_ble_eq_true rfl⟩ (rest := []) rfl (Nat.le_of_ble_eq_true rfl) dL_law_1043 ⟨by omega, by omega⟩) hR (rfl : 1043 + 3 = 1046) (fun z2547 S2548 H locs hq hR => ?_)
            obtain ⟨hm2549, h⟩ := hq
            have h := h hm2549
            have hm := hp_mono.tr hm hm2549
            have ms23 := hp_mono.tr ms23 hm2549
            refine hp_aload_n E hl 2 rfl 2 rfl dL_law_1046 (rfl : 1046 + 1 = 1047) ?_
            refine lv_aload_n E.x E.b dL_law_1047 rfl (lv_at hl 0 rfl) ?_
            refine hp_iload E hl 4 rfl dL_law_1048 (rfl : 1048 + 2 = 1050) ?_
            refine hp_iconst E (1 : Int32) (by decide) dL_law_1050 (rfl : 1050 + 1 = 1051) ?_
            refine hp_iadd E dL_law_1051 (rfl : 1051 + 1 = 1052) ?_
            obtain ⟨hi2550, h⟩ := h
            refine va_sld E.x E.b hX hbl hbA (hp_vaS hR0 hR hm.1) hi2550 dL_law_1052 ?_
            obtain ⟨hc2551, h⟩ := h
            refine hp_fi (hp_rV E hR hl (m_X7_names G _ _ _ _ hc2551 h) hc2551 (ci := 6) rfl rfl q1680 q1681 q1682 q82 q1683 nf_X7_names ⟨Nat.le_of_ble_eq_true rfl, Nat.le_of_ble_eq_true rfl⟩ (rest := [.int z2547]) rfl (Nat.le_of_ble_eq_true rfl) dL_law_1053 ⟨by omega, by omega⟩) hR (rfl : 1053 + 3 = 1056) (fun z2552 S2553 H locs hq hR => ?_)
            obtain ⟨hm2554, h⟩ := hq
            have h := h hm2554
            have hm := hp_mono.tr hm hm2554
            have ms23 := hp_mono.tr ms23 hm2554
            refine hp_icmp_eq E dL_law_1056 (rfl : 1056 + 3 = 1059) (tgt := 1216) (by decide) (fun hb => ?_) (fun hb => ?_)
            · have h := h.1 hb
              exact W.widen (by omega) (by omega) (b1216 _ _ _ _ _ h hl hR hm ms23)
            · have h := h.2 hb
              refine hp_iconst E (0 : Int32) (by decide) dL_law_1059 (rfl : 1059 + 1 = 1060) ?_
              exact h.elim
          refine hp_case (x := ((xs v4.toNatClampNeg) &&& (31 : Int32))) (k := (21 : Int32)) (fun hb => ?_) (fun hn21 => ?_)
          · refine hp_tabIn E hb dL_law_40 (off := 1021) (tgt := 1061) (by decide) (by decide) rfl (by decide) ?_
            have h := h.2.2.2.2.2.2.2.2.2.2.2.2.2.2.2.2.2.2.2.2.2.1 hb
            refine hp_aload_n E hl 1 rfl 1 rfl dL_law_1061 (rfl : 1061 + 1 = 1062) ?_
            refine lv_aload_n E.x E.b dL_law_1062 rfl (lv_at hl 0 rfl) ?_
            refine hp_iload E hl 4 rfl dL_law_1063 (rfl : 1063 + 2 = 1065) ?_
            refine hp_iconst E (1 : Int32) (by decide) dL_law_1065 (rfl : 1065 + 1 = 1066) ?_
            refine hp_iadd E dL_law_1066 (rfl : 1066 + 1 = 1067) ?_
            obtain ⟨hi2555, h⟩ := h
            refine va_sld E.x E.b hX hbl hbA (hp_vaS hR0 hR hm.1) hi2555 dL_law_1067 ?_
            obtain ⟨hc2556, h⟩ := h
            refine hp_fi (hp_rV E hR hl (m_X1_named G _ _ _ _ hc2556 h) hc2556 (ci := 0) rfl rfl q1133 q1134 q1135 q73 q1136 nf_X1_named ⟨Nat.le_of_ble_eq_true rfl, Nat.le_of_ble_eq_true rfl⟩ (rest := []) rfl (Nat.le_of_ble_eq_true rfl) dL_law_1068 ⟨by omega, by omega⟩) hR (rfl : 1068 + 3 = 1071) (fun z2557 Sx H locs hq hR => ?_)
            obtain ⟨hSx, h⟩ := hq
            rw [hSx] at hR
            refine hp_aload_n E hl 2 rfl 2 rfl dL_law_1071 (rfl : 1071 + 1 = 1072) ?_
            refine lv_aload_n E.x E.b dL_law_1072 rfl (lv_at hl 0 rfl) ?_
            refine hp_iload E hl 4 rfl dL_law_1073 (rfl : 1073 + 2 = 1075) ?_
            refine hp_iconst E (1 : Int32) (by decide) dL_law_1075 (rfl : 1075 + 1 = 1076) ?_
            refine hp_iadd E dL_law_1076 (rfl : 1076 + 1 = 1077) ?_
            obtain ⟨hi2558, h⟩ := h
            refine va_sld E.x E.b hX hbl hbA (hp_vaS hR0 hR hm.1) hi2558 dL_law_1077 ?_
            obtain ⟨hc2559, h⟩ := h
            refine hp_fi (hp_rV E hR hl (m_X7_named G _ _ _ _ hc2559 h) hc2559 (ci := 6) rfl rfl q1686 q1687 q1688 q82 q1689 nf_X7_named ⟨Nat.le_of_ble_eq_true rfl, Nat.le_of_ble_eq_true rfl⟩ (rest := [.int z2557]) rfl (Nat.le_of_ble_eq_true rfl) dL_law_1078 ⟨by omega, by omega⟩) hR (rfl : 1078 + 3 = 1081) (fun z2560 S2561 H locs hq hR => ?_)
            obtain ⟨hm2562, h⟩ := hq
            have h := h hm2562
            have hm := hp_mono.tr hm hm2562
            have ms23 := hp_mono.tr ms23 hm2562
            refine hp_icmp_eq E dL_law_1081 (rfl : 1081 + 3 = 1084) (tgt := 1216) (by decide) (fun hb => ?_) (fun hb => ?_)
            · have h := h.1 hb
              exact W.widen (by omega) (by omega) (b1216 _ _ _ _ _ h hl hR hm ms23)
            · have h := h.2 hb
              refine hp_iconst E (0 : Int32) (by decide) dL_law_1084 (rfl : 1084 + 1 = 1085) ?_
              exact h.elim
          refine hp_case (x := ((xs v4.toNatClampNeg) &&& (31 : Int32))) (k := (22 : Int32)) (fun hb => ?_) (fun hn22 => ?_)
          · refine hp_tabIn E hb dL_law_40 (off := 1046) (tgt := 1086) (by decide) (by decide) rfl (by decide) ?_
            have h := h.2.2.2.2.2.2.2.2.2.2.2.2.2.2.2.2.2.2.2.2.2.2.1 hb
            refine hp_aload_n E hl 1 rfl 1 rfl dL_law_1086 (rfl : 1086 + 1 = 1087) ?_
            refine lv_aload_n E.x E.b dL_law_1087 rfl (lv_at hl 0 rfl) ?_
            refine hp_iload E hl 4 rfl dL_law_1088 (rfl : 1088 + 2 = 1090) ?_
            refine hp_iconst E (1 : Int32) (by decide) dL_law_1090 (rfl : 1090 + 1 = 1091) ?_
            refine hp_iadd E dL_law_1091 (rfl : 1091 + 1 = 1092) ?_
            obtain ⟨hi2563, h⟩ := h
            refine va_sld E.x E.b hX hbl hbA (hp_vaS hR0 hR hm.1) hi2563 dL_law_1092 ?_
            obtain ⟨hc2564, h⟩ := h
            refine hp_fi (hp_rV E hR hl (m_X1_look G _ _ _ _ hc2564 h) hc2564 (ci := 0) rfl rfl q1137 q1138 q1139 q73 q1140 nf_X1_look ⟨Nat.le_of_ble_eq_true rfl, Nat.le_of_ble_eq_true rfl⟩ (rest := []) rfl (Nat.le_of_ble_eq_true rfl) dL_law_1093 ⟨by omega, by omega⟩) hR (rfl : 1093 + 3 = 1096) (fun z2565 S2566 H locs hq hR => ?_)
            obtain ⟨hm2567, h⟩ := hq
            have h := h hm2567
            have hm := hp_mono.tr hm hm2567
            have ms23 := hp_mono.tr ms23 hm2567
            refine hp_aload_n E hl 2 rfl 2 rfl dL_law_1096 (rfl : 1096 + 1 = 1097) ?_
            refine lv_aload_n E.x E.b dL_law_1097 rfl (lv_at hl 0 rfl) ?_
            refine hp_iload E hl 4 rfl dL_law_1098 (rfl : 1098 + 2 = 1100) ?_
            refine hp_iconst E (1 : Int32) (by decide) dL_law_1100 (rfl : 1100 + 1 = 1101) ?_
            refine hp_iadd E dL_law_1101 (rfl : 1101 + 1 = 1102) ?_
            obtain ⟨hi2568, h⟩ := h
            refine va_sld E.x E.b hX hbl hbA (hp_vaS hR0 hR hm.1) hi2568 dL_law_1102 ?_
            obtain ⟨hc2569, h⟩ := h
            refine hp_fi (hp_rV E hR hl (m_X7_look G _ _ _ _ hc2569 h) hc2569 (ci := 6) rfl rfl q1690 q1691 q1692 q82 q1693 nf_X7_look ⟨Nat.le_of_ble_eq_true rfl, Nat.le_of_ble_eq_true rfl⟩ (rest := [.int z2565]) rfl (Nat.le_of_ble_eq_true rfl) dL_law_1103 ⟨by omega, by omega⟩) hR (rfl : 1103 + 3 = 1106) (fun z2570 S2571 H locs hq hR => ?_)
            obtain ⟨hm2572, h⟩ := hq
            have h := h hm2572
            have hm := hp_mono.tr hm hm2572
            have ms23 := hp_mono.tr ms23 hm2572
            refine hp_icmp_eq E dL_law_1106 (rfl : 1106 + 3 = 1109) (tgt := 1216) (by decide) (fun hb => ?_) (fun hb => ?_)
            · have h := h.1 hb
              exact W.widen (by omega) (by omega) (b1216 _ _ _ _ _ h hl hR hm ms23)
            · have h := h.2 hb
              refine hp_iconst E (0 : Int32) (by decide) dL_law_1109 (rfl : 1109 + 1 = 1110) ?_
              exact h.elim
          refine hp_case (x := ((xs v4.toNatClampNeg) &&& (31 : Int32))) (k := (23 : Int32)) (fun hb => ?_) (fun hn23 => ?_)
          · refine hp_tabIn E hb dL_law_40 (off := 1071) (tgt := 1111) (by decide) (by decide) rfl (by decide) ?_
            have h := h.2.2.2.2.2.2.2.2.2.2.2.2.2.2.2.2.2.2.2.2.2.2.2.1 hb
            refine hp_aload_n E hl 1 rfl 1 rfl dL_law_1111 (rfl : 1111 + 1 = 1112) ?_
            refine lv_aload_n E.x E.b dL_law_1112 rfl (lv_at hl 0 rfl) ?_
            refine hp_iload E hl 4 rfl dL_law_1113 (rfl : 1113 + 2 = 1115) ?_
            refine hp_iconst E (1 : Int32) (by decide) dL_law_1115 (rfl : 1115 + 1 = 1116) ?_
            refine hp_iadd E dL_law_1116 (rfl : 1116 + 1 = 1117) ?_
            obtain ⟨hi2573, h⟩ := h
            refine va_sld E.x E.b hX hbl hbA (hp_vaS hR0 hR hm.1) hi2573 dL_law_1117 ?_
            refine hp_aload_n E hl 3 rfl 3 rfl dL_law_1118 (rfl : 1118 + 1 = 1119) ?_
            refine hp_fi (hp_rSW E hR hl (m_X0_risk G _ _ _ _ _ h) q1169 q1170 q72 q1171 nf_X0_risk ⟨Nat.le_of_ble_eq_true rfl, Nat.le_of_ble_eq_true rfl⟩ (rest := []) rfl (Nat.le_of_ble_eq_true rfl) dL_law_1119 ⟨by omega, by omega⟩) hR (rfl : 1119 + 3 = 1122) (fun z2574 S2575 H locs hq hR => ?_)
            obtain ⟨hm2576, h⟩ := hq
            have h := h hm2576
            have hm := hp_mono.tr hm hm2576
            have ms23 := hp_mono.tr ms23 hm2576
            refine hp_istore E hl 5 (lv' := [(0, .ref b), (1, hp_v B r1), (2, hp_v B r2), (3, hp_v B r3), (4, .int v4)]) dL_law_1122 (rfl : 1122 + 2 = 1124) (by decide) rfl (fun ls hl => ?_)
            refine hp_aload_n E hl 2 rfl 3 rfl dL_law_1124 (rfl : 1124 + 1 = 1125) ?_
            refine lv_aload_n E.x E.b dL_law_1125 rfl (lv_at hl 1 rfl) ?_
            refine hp_iload E hl 5 rfl dL_law_1126 (rfl : 1126 + 2 = 1128) ?_
            refine hp_iconst E (1 : Int32) (by decide) dL_law_1128 (rfl : 1128 + 1 = 1129) ?_
            refine hp_iadd E dL_law_1129 (rfl : 1129 + 1 = 1130) ?_
            obtain ⟨hi2577, h⟩ := h
            refine va_sld E.x E.b hX hbl hbA (hp_vaS hR0 hR hm.1) hi2577 dL_law_1130 ?_
            obtain ⟨hc2578, h⟩ := h
            refine hp_fl (hp_rV E hR hl (m_X7_risk G _ _ _ _ hc2578 h) hc2578 (ci := 6) rfl rfl q1698 q1699 q1700 q82 q1701 nf_X7_risk ⟨Nat.le_of_ble_eq_true rfl, Nat.le_of_ble_eq_true rfl⟩ (rest := []) rfl (Nat.le_of_ble_eq_true rfl) dL_law_1131 ⟨by omega, by omega⟩) hR (rfl : 1131 + 3 = 1134) (fun z2579 S2580 H locs hq hR => ?_)
            obtain ⟨hm2581, h⟩ := hq
            have h := h hm2581
            have hm := hp_mono.tr hm hm2581
            have ms23 := hp_mono.tr ms23 hm2581
            refine hp_lstore E hl 6 (lv' := [(5, .int z2574), (0, .ref b), (1, hp_v B r1), (2, hp_v B r2), (3, hp_v B r3), (4, .int v4)]) dL_law_1134 (rfl : 1134 + 2 = 1136) (by decide) rfl (fun ls hl => ?_)
            refine hp_aload_n E hl 2 rfl 4 rfl dL_law_1136 (rfl : 1136 + 1 = 1137) ?_
            refine hp_fi (hp_rV E hR hl (m_X7_thrown G _ _ _ (hp_mono.c hm2581 hc2578) h) (hp_mono.c hm2581 hc2578) (ci := 6) rfl rfl q1436 q1437 q1438 q82 q1439 nf_X7_thrown ⟨Nat.le_of_ble_eq_true rfl, Nat.le_of_ble_eq_true rfl⟩ (rest := []) rfl (Nat.le_of_ble_eq_true rfl) dL_law_1137 ⟨by omega, by omega⟩) hR (rfl : 1137 + 3 = 1140) (fun z2582 Sx H locs hq hR => ?_)
            obtain ⟨hSx, h⟩ := hq
            rw [hSx] at hR
            refine hp_iload E hl 1 rfl dL_law_1140 (rfl : 1140 + 2 = 1142) ?_
            refine hp_icmp_eq E dL_law_1142 (rfl : 1142 + 3 = 1145) (tgt := 1147) (by decide) (fun hb => ?_) (fun hb => ?_)
            · have h := h.1 hb
              refine hp_iload E hl 1 rfl dL_law_1147 (rfl : 1147 + 2 = 1149) ?_
              refine hp_if_ne E dL_law_1149 (rfl : 1149 + 3 = 1152) (tgt := 1163) (by decide) (fun hb => ?_) (fun hb => ?_)
              · have h := h.1 hb
                refine hp_aload_n E hl 3 rfl 5 rfl dL_law_1152 (rfl : 1152 + 1 = 1153) ?_
                refine hp_iconst E (0 : Int32) (by decide) dL_law_1153 (rfl : 1153 + 1 = 1154) ?_
                obtain ⟨hc2583, h⟩ := h
                obtain ⟨hi2584, h⟩ := h
                refine hp_lald E hR hc2583 hi2584 dL_law_1154 (rfl : 1154 + 1 = 1155) ?_
                refine hp_lload E hl 0 rfl dL_law_1155 (rfl : 1155 + 2 = 1157) ?_
                refine hp_lcmp E dL_law_1157 (rfl : 1157 + 1 = 1158) ?_
                refine hp_if_eq E dL_law_1158 (rfl : 1158 + 3 = 1161) (tgt := 1163) (by decide) (fun hb => ?_) (fun hb => ?_)
                · have h := h.1 hb
                  exact W.widen (by omega) (by omega) (b1163 _ _ _ _ _ h (lv_sub hl [2, 3, 4, 5, 6] rfl) hR hm ms23)
                · have h := h.2 hb
                  refine hp_iconst E (0 : Int32) (by decide) dL_law_1161 (rfl : 1161 + 1 = 1162) ?_
                  exact h.elim
              · have h := h.2 hb
                exact W.widen (by omega) (by omega) (b1163 _ _ _ _ _ h (lv_sub hl [2, 3, 4, 5, 6] rfl) hR hm ms23)
            · have h := h.2 hb
              refine hp_iconst E (0 : Int32) (by decide) dL_law_1145 (rfl : 1145 + 1 = 1146) ?_
              exact h.elim
          refine hp_case (x := ((xs v4.toNatClampNeg) &&& (31 : Int32))) (k := (24 : Int32)) (fun hb => ?_) (fun hn24 => ?_)
          · refine hp_tabIn E hb dL_law_40 (off := 1126) (tgt := 1166) (by decide) (by decide) rfl (by decide) ?_
            have h := h.2.2.2.2.2.2.2.2.2.2.2.2.2.2.2.2.2.2.2.2.2.2.2.2.1 hb
            refine hp_aload_n E hl 1 rfl 1 rfl dL_law_1166 (rfl : 1166 + 1 = 1167) ?_
            refine lv_aload_n E.x E.b dL_law_1167 rfl (lv_at hl 0 rfl) ?_
            refine hp_iload E hl 4 rfl dL_law_1168 (rfl : 1168 + 2 = 1170) ?_
            refine hp_iconst E (1 : Int32) (by decide) dL_law_1170 (rfl : 1170 + 1 = 1171) ?_
            refine hp_iadd E dL_law_1171 (rfl : 1171 + 1 = 1172) ?_
            obtain ⟨hi2585, h⟩ := h
            refine va_sld E.x E.b hX hbl hbA (hp_vaS hR0 hR hm.1) hi2585 dL_law_1172 ?_
            obtain ⟨hc2586, h⟩ := h
            refine hp_fi (hp_rV E hR hl (m_X1_converts G _ _ _ _ hc2586 h) hc2586 (ci := 0) rfl rfl q1150 q1151 q1152 q73 q1153 nf_X1_converts ⟨Nat.le_of_ble_eq_true rfl, Nat.le_of_ble_eq_true rfl⟩ (rest := []) rfl (Nat.le_of_ble_eq_true rfl) dL_law_1173 ⟨by omega, by omega⟩) hR (rfl : 1173 + 3 = 1176) (fun z2587 S2588 H locs hq hR => ?_)
            obtain ⟨hm2589, h⟩ := hq
            have h := h hm2589
            have hm := hp_mono.tr hm hm2589
            have ms23 := hp_mono.tr ms23 hm2589
            refine hp_aload_n E hl 2 rfl 2 rfl dL_law_1176 (rfl : 1176 + 1 = 1177) ?_
            refine lv_aload_n E.x E.b dL_law_1177 rfl (lv_at hl 0 rfl) ?_
            refine hp_iload E hl 4 rfl dL_law_1178 (rfl : 1178 + 2 = 1180) ?_
            refine hp_iconst E (1 : Int32) (by decide) dL_law_1180 (rfl : 1180 + 1 = 1181) ?_
            refine hp_iadd E dL_law_1181 (rfl : 1181 + 1 = 1182) ?_
            obtain ⟨hi2590, h⟩ := h
            refine va_sld E.x E.b hX hbl hbA (hp_vaS hR0 hR hm.1) hi2590 dL_law_1182 ?_
            obtain ⟨hc2591, h⟩ := h
            refine hp_fi (hp_rV E hR hl (m_X7_converts G _ _ _ _ hc2591 h) hc2591 (ci := 6) rfl rfl q1706 q1707 q1708 q82 q1709 nf_X7_converts ⟨Nat.le_of_ble_eq_true rfl, Nat.le_of_ble_eq_true rfl⟩ (rest := [.int z2587]) rfl (Nat.le_of_ble_eq_true rfl) dL_law_1183 ⟨by omega, by omega⟩) hR (rfl : 1183 + 3 = 1186) (fun z2592 S2593 H locs hq hR => ?_)
            obtain ⟨hm2594, h⟩ := hq
            have h := h hm2594
            have hm := hp_mono.tr hm hm2594
            have ms23 := hp_mono.tr ms23 hm2594
            refine hp_icmp_eq E dL_law_1186 (rfl : 1186 + 3 = 1189) (tgt := 1216) (by decide) (fun hb => ?_) (fun hb => ?_)
            · have h := h.1 hb
              exact W.widen (by omega) (by omega) (b1216 _ _ _ _ _ h hl hR hm ms23)
            · have h := h.2 hb
              refine hp_iconst E (0 : Int32) (by decide) dL_law_1189 (rfl : 1189 + 1 = 1190) ?_
              exact h.elim
          refine hp_case (x := ((xs v4.toNatClampNeg) &&& (31 : Int32))) (k := (25 : Int32)) (fun hb => ?_) (fun hn25 => ?_)
          · refine hp_tabIn E hb dL_law_40 (off := 1151) (tgt := 1191) (by decide) (by decide) rfl (by decide) ?_
            have h := h.2.2.2.2.2.2.2.2.2.2.2.2.2.2.2.2.2.2.2.2.2.2.2.2.2.1 hb
            refine hp_aload_n E hl 1 rfl 1 rfl dL_law_1191 (rfl : 1191 + 1 = 1192) ?_
            refine lv_aload_n E.x E.b dL_law_1192 rfl (lv_at hl 0 rfl) ?_
            refine hp_iload E hl 4 rfl dL_law_1193 (rfl : 1193 + 2 = 1195) ?_
            refine hp_iconst E (1 : Int32) (by decide) dL_law_1195 (rfl : 1195 + 1 = 1196) ?_
            refine hp_iadd E dL_law_1196 (rfl : 1196 + 1 = 1197) ?_
            obtain ⟨hi2595, h⟩ := h
            refine va_sld E.x E.b hX hbl hbA (hp_vaS hR0 hR hm.1) hi2595 dL_law_1197 ?_
            obtain ⟨hc2596, h⟩ := h
            refine hp_fi (hp_rV E hR hl (m_X1_count G _ _ _ _ hc2596 h) hc2596 (ci := 0) rfl rfl q1165 q1166 q1167 q73 q1168 nf_X1_count ⟨Nat.le_of_ble_eq_true rfl, Nat.le_of_ble_eq_true rfl⟩ (rest := []) rfl (Nat.le_of_ble_eq_true rfl) dL_law_1198 ⟨by omega, by omega⟩) hR (rfl : 1198 + 3 = 1201) (fun z2597 Sx H locs hq hR => ?_)
            obtain ⟨hSx, h⟩ := hq
            rw [hSx] at hR
            refine hp_aload_n E hl 2 rfl 2 rfl dL_law_1201 (rfl : 1201 + 1 = 1202) ?_
            refine lv_aload_n E.x E.b dL_law_1202 rfl (lv_at hl 0 rfl) ?_
            refine hp_iload E hl 4 rfl dL_law_1203 (rfl : 1203 + 2 = 1205) ?_
            refine hp_iconst E (1 : Int32) (by decide) dL_law_1205 (rfl : 1205 + 1 = 1206) ?_
            refine hp_iadd E dL_law_1206 (rfl : 1206 + 1 = 1207) ?_
            obtain ⟨hi2598, h⟩ := h
            refine va_sld E.x E.b hX hbl hbA (hp_vaS hR0 hR hm.1) hi2598 dL_law_1207 ?_
            obtain ⟨hc2599, h⟩ := h
            refine hp_fi (hp_rV E hR hl (m_X7_count G _ _ _ _ hc2599 h) hc2599 (ci := 6) rfl rfl q1716 q1717 q1718 q82 q1719 nf_X7_count ⟨Nat.le_of_ble_eq_true rfl, Nat.le_of_ble_eq_true rfl⟩ (rest := [.int z2597]) rfl (Nat.le_of_ble_eq_true rfl) dL_law_1208 ⟨by omega, by omega⟩) hR (rfl : 1208 + 3 = 1211) (fun z2600 S2601 H locs hq hR => ?_)
            obtain ⟨hm2602, h⟩ := hq
            have h := h hm2602
            have hm := hp_mono.tr hm hm2602
            have ms23 := hp_mono.tr ms23 hm2602
            refine hp_icmp_eq E dL_law_1211 (rfl : 1211 + 3 = 1214) (tgt := 1216) (by decide) (fun hb => ?_) (fun hb => ?_)
            · have h := h.1 hb
              exact W.widen (by omega) (by omega) (b1216 _ _ _ _ _ h hl hR hm ms23)
            · have h := h.2 hb
              refine hp_iconst E (0 : Int32) (by decide) dL_law_1214 (rfl : 1214 + 1 = 1215) ?_
              exact h.elim
          have hno : ¬ ((xs v4.toNatClampNeg) &&& (31 : Int32)) = (0 : Int32) ∧ ¬ ((xs v4.toNatClampNeg) &&& (31 : Int32)) = (1 : Int32) ∧ ¬ ((xs v4.toNatClampNeg) &&& (31 : Int32)) = (2 : Int32) ∧ ¬ ((xs v4.toNatClampNeg) &&& (31 : Int32)) = (3 : Int32) ∧ ¬ ((xs v4.toNatClampNeg) &&& (31 : Int32)) = (4 : Int32) ∧ ¬ ((xs v4.toNatClampNeg) &&& (31 : Int32)) = (5 : Int32) ∧ ¬ ((xs v4.toNatClampNeg) &&& (31 : Int32)) = (6 : Int32) ∧ ¬ ((xs v4.toNatClampNeg) &&& (31 : Int32)) = (7 : Int32) ∧ ¬ ((xs v4.toNatClampNeg) &&& (31 : Int32)) = (8 : Int32) ∧ ¬ ((xs v4.toNatClampNeg) &&& (31 : Int32)) = (9 : Int32) ∧ ¬ ((xs v4.toNatClampNeg) &&& (31 : Int32)) = (10 : Int32) ∧ ¬ ((xs v4.toNatClampNeg) &&& (31 : Int32)) = (11 : Int32) ∧ ¬ ((xs v4.toNatClampNeg) &&& (31 : Int32)) = (12 : Int32) ∧ ¬ ((xs v4.toNatClampNeg) &&& (31 : Int32)) = (13 : Int32) ∧ ¬ ((xs v4.toNatClampNeg) &&& (31 : Int32)) = (14 : Int32) ∧ ¬ ((xs v4.toNatClampNeg) &&& (31 : Int32)) = (15 : Int32) ∧ ¬ ((xs v4.toNatClampNeg) &&& (31 : Int32)) = (16 : Int32) ∧ ¬ ((xs v4.toNatClampNeg) &&& (31 : Int32)) = (17 : Int32) ∧ ¬ ((xs v4.toNatClampNeg) &&& (31 : Int32)) = (18 : Int32) ∧ ¬ ((xs v4.toNatClampNeg) &&& (31 : Int32)) = (19 : Int32) ∧ ¬ ((xs v4.toNatClampNeg) &&& (31 : Int32)) = (20 : Int32) ∧ ¬ ((xs v4.toNatClampNeg) &&& (31 : Int32)) = (21 : Int32) ∧ ¬ ((xs v4.toNatClampNeg) &&& (31 : Int32)) = (22 : Int32) ∧ ¬ ((xs v4.toNatClampNeg) &&& (31 : Int32)) = (23 : Int32) ∧ ¬ ((xs v4.toNatClampNeg) &&& (31 : Int32)) = (24 : Int32) ∧ ¬ ((xs v4.toNatClampNeg) &&& (31 : Int32)) = (25 : Int32) := ⟨hn0, hn1, hn2, hn3, hn4, hn5, hn6, hn7, hn8, hn9, hn10, hn11, hn12, hn13, hn14, hn15, hn16, hn17, hn18, hn19, hn20, hn21, hn22, hn23, hn24, hn25⟩
          have h := h.2.2.2.2.2.2.2.2.2.2.2.2.2.2.2.2.2.2.2.2.2.2.2.2.2.2 hno
          refine hp_tabOut E dL_law_40 (tgt := 1216) (hp_out26 hno) (by decide) ?_
          exact W.widen (by omega) (by omega) (b1216 _ _ _ _ _ h hl hR hm ms23)
        · have h := h.2 hb
          refine hp_iconst E (1 : Int32) (by decide) dL_law_1222 (rfl : 1222 + 1 = 1223) ?_
          exact W.widen (by omega) (by omega) (va_forget (fun q hq => by have := hR.2.2 q hq; omega) (lw_ret E.x E.b E.r E.lk dL_law_1223))
    exact W.widen (by omega) (by omega) (key23 (μ23 v4 Sa23 + 1) v4 _ H locs ls (by omega) (Nat.lt_succ_self _) hI hl hR hp_mono.rf)
  unfold wp_L_law at h
  refine hx_new E hR in_X1 tyX1 tyX1_ok (ci := 0) rfl hd_X1 q109 q110 q73 (Nat.le_of_ble_eq_true rfl) (Nat.le_of_ble_eq_true rfl) dL_law_0 (rfl : 0 + 3 = 3) (fun n4 S1 H e5 e3 hf6 hm2 hc7 hR => ?_)
  have h := h n4 S1 e5 e3 hf6
  have hm := hp_mono.tr hm hm2
  refine hp_dup E hp_vc dL_law_3 (rfl : 3 + 1 = 4) ?_
  refine hp_fv (hp_rI E hR hl (hp_ne hR hc7) (m_X1_init G _ _ _ hc7 h) rfl q111 q112 q73 q113 nf_X1_init ⟨Nat.le_of_ble_eq_true rfl, Nat.le_of_ble_eq_true rfl⟩ (rest := [hp_v B n4]) rfl (Nat.le_of_ble_eq_true rfl) dL_law_4 ⟨Nat.le_of_ble_eq_true rfl, Nat.le_of_ble_eq_true rfl⟩) hR (rfl : 4 + 3 = 7) (fun S8 H locs hq hR => ?_)
  obtain ⟨hm9, h⟩ := hq
  have h := h hm9
  have hm := hp_mono.tr hm hm9
  refine hp_astore_n E hl 1 rfl (lv' := [(0, .ref b)]) dL_law_7 (rfl : 7 + 1 = 8) (by decide) rfl (fun ls hl => ?_)
  refine hx_new E hR in_X7 tyX7 tyX7_ok (ci := 6) rfl hd_X7 q1247 q1248 q82 (Nat.le_of_ble_eq_true rfl) (Nat.le_of_ble_eq_true rfl) dL_law_8 (rfl : 8 + 3 = 11) (fun n13 S10 H e14 e12 hf15 hm11 hc16 hR => ?_)
  have h := h n13 S10 e14 e12 hf15
  have hm := hp_mono.tr hm hm11
  refine hp_dup E hp_vc dL_law_11 (rfl : 11 + 1 = 12) ?_
  refine hp_fv (hp_rI E hR hl (hp_ne hR hc16) (m_X7_init G _ _ _ hc16 h) rfl q1249 q1250 q82 q1251 nf_X7_init ⟨Nat.le_of_ble_eq_true rfl, Nat.le_of_ble_eq_true rfl⟩ (rest := [hp_v B n13]) rfl (Nat.le_of_ble_eq_true rfl) dL_law_12 ⟨Nat.le_of_ble_eq_true rfl, Nat.le_of_ble_eq_true rfl⟩) hR (rfl : 12 + 3 = 15) (fun S17 H locs hq hR => ?_)
  obtain ⟨hm18, h⟩ := hq
  have h := h hm18
  have hm := hp_mono.tr hm hm18
  refine hp_astore_n E hl 2 rfl (lv' := [(1, hp_v B n4), (0, .ref b)]) dL_law_15 (rfl : 15 + 1 = 16) (by decide) (by simp [hp_vc, hp_ci, hp_cj]) (fun ls hl => ?_)
  refine hp_iconst E (1 : Int32) (by decide) dL_law_16 (rfl : 16 + 1 = 17) ?_
  refine hx_newa E hR (atype := .long) (ty := .long) rfl 53 3 rfl (Or.inr (Or.inr (Or.inr ⟨rfl, rfl⟩))) q1720 (N := 1) (by decide) (by decide) (Nat.le_of_ble_eq_true rfl) (Nat.le_of_ble_eq_true rfl) (Nat.le_of_ble_eq_true rfl) dL_law_17 (rfl : 17 + 2 = 19) (fun n22 S19 H e23 e21 hf24 hm20 hc25 hR => ?_)
  have h := h n22 S19 e23 e21 hf24
  have hm := hp_mono.tr hm hm20
  refine hp_astore_n E hl 3 rfl (lv' := [(2, hp_v B n13), (1, hp_v B n4), (0, .ref b)]) dL_law_19 (rfl : 19 + 1 = 20) (by decide) (by simp [hp_vc, hp_ci, hp_cj]) (fun ls hl => ?_)
  refine hp_iconst E (0 : Int32) (by decide) dL_law_20 (rfl : 20 + 1 = 21) ?_
  refine hp_istore E hl 4 (lv' := [(3, hp_v B n22), (2, hp_v B n13), (1, hp_v B n4), (0, .ref b)]) dL_law_21 (rfl : 21 + 2 = 23) (by decide) (by simp [hp_vc, hp_ci, hp_cj]) (fun ls hl => ?_)
  exact b23 _ _ _ _ _ _ _ _ h (lv_sub hl [4, 3, 2, 1, 0] rfl) hR hm
