/-! BASE 4: switches, calls by the receiver's class -/
set_option maxRecDepth 100000
/-- a call whose method the receiver's class picks: k is what follows -/
def hp_virt {α : Sort _} (f : α → Prop) (k : α) : Prop := f k
theorem hp_ci {x : Int32} : (Value.int x).category = 1 := rfl
theorem hp_cj {x : Int64} : (Value.long x).category = 2 := rfl
theorem hp_el1 {a X : Prop} (h : a) (f : a → X) : X := f h
theorem hp_el2 {a b X : Prop} (h : a ∨ b) (f : a → X) (g : b → X) : X := h.elim f g
theorem hp_el3 {a b c X : Prop} (h : a ∨ b ∨ c) (f : a → X) (g : b → X) (i : c → X) : X := h.elim f (fun q => q.elim g i)
theorem hp_case {x k : Int32} {G : Prop} (f : x = k → G) (g : ¬ x = k → G) : G := (Classical.em (x = k)).elim f g
section HPSW
variable {p : Program} {l : Launch} {e : Env} {R : Room} {s : State} {m : MethodId} {args : Array Value} {below : List Frame} {meth : Method} {c : Code} {H : Heap} {locs : List Loc} {cells slots : Nat} {Q : State → Prop}
variable {B : Nat} {D : va_G} {s0 : State} {S : hp_St} {cc : ByteArray} {own nm : String} {nL : Nat} {ret : Option FieldType} {pc pc' : Nat} {ls : Array Slot} {rest : List Value} {lv : List (Nat × Value)}
theorem hp_tabIn (E : hp_E B D s0 p s m args meth c cc own nm nL ret) {dflt lo hi : Int} {offs : Array Int} {len : Nat} {x k : Int32} {off : Int} {tgt : Nat} (hx : x = k) (hdg : decode cc pc = .ok (.tableswitch dflt lo hi offs, len)) (h1 : ¬ k.toInt < lo) (h2 : ¬ hi < k.toInt) (ho : offs[(k.toInt - lo).toNat]? = some off) (ht : (pc : Int) + off = (tgt : Int))
    (kk : W p l e R s m args below meth c H locs cells slots Q (F0 m tgt ls rest)) : W p l e R s m args below meth c H locs cells slots Q (F0 m pc ls (.int x :: rest)) := by
  subst hx
  exact lv_tableIn E.x E.b hdg h1 h2 ho ht kk
theorem hp_tabOut (E : hp_E B D s0 p s m args meth c cc own nm nL ret) {dflt lo hi : Int} {offs : Array Int} {len : Nat} {x : Int32} {tgt : Nat} (hdg : decode cc pc = .ok (.tableswitch dflt lo hi offs, len)) (h : x.toInt < lo ∨ hi < x.toInt) (ht : (pc : Int) + dflt = (tgt : Int))
    (kk : W p l e R s m args below meth c H locs cells slots Q (F0 m tgt ls rest)) : W p l e R s m args below meth c H locs cells slots Q (F0 m pc ls (.int x :: rest)) := lv_tableOut E.x E.b hdg h ht kk
theorem hp_weak {Q1 : hp_St → Prop} {a : Array Value} {mc ms : Nat} {st0 : List Value} (hr : va_Run p l e R s m args below meth c H locs cells slots mc ms (F0 m pc ls st0) rest (hp_Qv B D s0 Q1 a) (fun q => B < q)) {Q2 : hp_St → Prop} (h : ∀ S, Q1 S → Q2 S) : va_Run p l e R s m args below meth c H locs cells slots mc ms (F0 m pc ls st0) rest (hp_Qv B D s0 Q2 a) (fun q => B < q) := by
  intro T hT X
  obtain ⟨v, st₀, t, T', L, h0, X', hL, e1, e2, ⟨S1, hv, hq, hW⟩, st⟩ := hr T hT X
  exact ⟨v, st₀, t, T', L, h0, X', hL, e1, e2, ⟨S1, hv, h S1 hq, hW⟩, st⟩
end HPSW
theorem hp_ti {x : Int32} (k : Nat) (hk : k < 2 ^ 31) (h : ¬ x = Int32.ofNat k) : x.toInt ≠ (k : Int) := fun e => h (by
  apply Int32.toInt_inj.mp
  rw [e]
  exact (nI_toInt hk).symm)
theorem hp_out3 {x : Int32} (h : ¬ x = (0 : Int32) ∧ ¬ x = (1 : Int32) ∧ ¬ x = (2 : Int32)) : x.toInt < 0 ∨ (2 : Int) < x.toInt := by
  obtain ⟨h0, h1, h2⟩ := h
  have g0 : x.toInt ≠ ((0 : Nat) : Int) := hp_ti 0 (by decide) h0
  have g1 : x.toInt ≠ ((1 : Nat) : Int) := hp_ti 1 (by decide) h1
  have g2 : x.toInt ≠ ((2 : Nat) : Int) := hp_ti 2 (by decide) h2
  omega
theorem hp_out9 {x : Int32} (h : ¬ x = (0 : Int32) ∧ ¬ x = (1 : Int32) ∧ ¬ x = (2 : Int32) ∧ ¬ x = (3 : Int32) ∧ ¬ x = (4 : Int32) ∧ ¬ x = (5 : Int32) ∧ ¬ x = (6 : Int32) ∧ ¬ x = (7 : Int32) ∧ ¬ x = (8 : Int32)) : x.toInt < 0 ∨ (8 : Int) < x.toInt := by
  obtain ⟨h0, h1, h2, h3, h4, h5, h6, h7, h8⟩ := h
  have g0 : x.toInt ≠ ((0 : Nat) : Int) := hp_ti 0 (by decide) h0
  have g1 : x.toInt ≠ ((1 : Nat) : Int) := hp_ti 1 (by decide) h1
  have g2 : x.toInt ≠ ((2 : Nat) : Int) := hp_ti 2 (by decide) h2
  have g3 : x.toInt ≠ ((3 : Nat) : Int) := hp_ti 3 (by decide) h3
  have g4 : x.toInt ≠ ((4 : Nat) : Int) := hp_ti 4 (by decide) h4
  have g5 : x.toInt ≠ ((5 : Nat) : Int) := hp_ti 5 (by decide) h5
  have g6 : x.toInt ≠ ((6 : Nat) : Int) := hp_ti 6 (by decide) h6
  have g7 : x.toInt ≠ ((7 : Nat) : Int) := hp_ti 7 (by decide) h7
  have g8 : x.toInt ≠ ((8 : Nat) : Int) := hp_ti 8 (by decide) h8
  omega
theorem hp_out26 {x : Int32} (h : ¬ x = (0 : Int32) ∧ ¬ x = (1 : Int32) ∧ ¬ x = (2 : Int32) ∧ ¬ x = (3 : Int32) ∧ ¬ x = (4 : Int32) ∧ ¬ x = (5 : Int32) ∧ ¬ x = (6 : Int32) ∧ ¬ x = (7 : Int32) ∧ ¬ x = (8 : Int32) ∧ ¬ x = (9 : Int32) ∧ ¬ x = (10 : Int32) ∧ ¬ x = (11 : Int32) ∧ ¬ x = (12 : Int32) ∧ ¬ x = (13 : Int32) ∧ ¬ x = (14 : Int32) ∧ ¬ x = (15 : Int32) ∧ ¬ x = (16 : Int32) ∧ ¬ x = (17 : Int32) ∧ ¬ x = (18 : Int32) ∧ ¬ x = (19 : Int32) ∧ ¬ x = (20 : Int32) ∧ ¬ x = (21 : Int32) ∧ ¬ x = (22 : Int32) ∧ ¬ x = (23 : Int32) ∧ ¬ x = (24 : Int32) ∧ ¬ x = (25 : Int32)) : x.toInt < 0 ∨ (25 : Int) < x.toInt := by
  obtain ⟨h0, h1, h2, h3, h4, h5, h6, h7, h8, h9, h10, h11, h12, h13, h14, h15, h16, h17, h18, h19, h20, h21, h22, h23, h24, h25⟩ := h
  have g0 : x.toInt ≠ ((0 : Nat) : Int) := hp_ti 0 (by decide) h0
  have g1 : x.toInt ≠ ((1 : Nat) : Int) := hp_ti 1 (by decide) h1
  have g2 : x.toInt ≠ ((2 : Nat) : Int) := hp_ti 2 (by decide) h2
  have g3 : x.toInt ≠ ((3 : Nat) : Int) := hp_ti 3 (by decide) h3
  have g4 : x.toInt ≠ ((4 : Nat) : Int) := hp_ti 4 (by decide) h4
  have g5 : x.toInt ≠ ((5 : Nat) : Int) := hp_ti 5 (by decide) h5
  have g6 : x.toInt ≠ ((6 : Nat) : Int) := hp_ti 6 (by decide) h6
  have g7 : x.toInt ≠ ((7 : Nat) : Int) := hp_ti 7 (by decide) h7
  have g8 : x.toInt ≠ ((8 : Nat) : Int) := hp_ti 8 (by decide) h8
  have g9 : x.toInt ≠ ((9 : Nat) : Int) := hp_ti 9 (by decide) h9
  have g10 : x.toInt ≠ ((10 : Nat) : Int) := hp_ti 10 (by decide) h10
  have g11 : x.toInt ≠ ((11 : Nat) : Int) := hp_ti 11 (by decide) h11
  have g12 : x.toInt ≠ ((12 : Nat) : Int) := hp_ti 12 (by decide) h12
  have g13 : x.toInt ≠ ((13 : Nat) : Int) := hp_ti 13 (by decide) h13
  have g14 : x.toInt ≠ ((14 : Nat) : Int) := hp_ti 14 (by decide) h14
  have g15 : x.toInt ≠ ((15 : Nat) : Int) := hp_ti 15 (by decide) h15
  have g16 : x.toInt ≠ ((16 : Nat) : Int) := hp_ti 16 (by decide) h16
  have g17 : x.toInt ≠ ((17 : Nat) : Int) := hp_ti 17 (by decide) h17
  have g18 : x.toInt ≠ ((18 : Nat) : Int) := hp_ti 18 (by decide) h18
  have g19 : x.toInt ≠ ((19 : Nat) : Int) := hp_ti 19 (by decide) h19
  have g20 : x.toInt ≠ ((20 : Nat) : Int) := hp_ti 20 (by decide) h20
  have g21 : x.toInt ≠ ((21 : Nat) : Int) := hp_ti 21 (by decide) h21
  have g22 : x.toInt ≠ ((22 : Nat) : Int) := hp_ti 22 (by decide) h22
  have g23 : x.toInt ≠ ((23 : Nat) : Int) := hp_ti 23 (by decide) h23
  have g24 : x.toInt ≠ ((24 : Nat) : Int) := hp_ti 24 (by decide) h24
  have g25 : x.toInt ≠ ((25 : Nat) : Int) := hp_ti 25 (by decide) h25
  omega
