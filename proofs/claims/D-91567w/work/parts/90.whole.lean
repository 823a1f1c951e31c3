set_option maxRecDepth 100000
theorem main_pure (b L : Nat) (xs : Nat → Int32) (hL : L ≤ 384) : wp_L_law b L xs st_0 True := sorry
theorem whole_start {p : Program} {e : Env} {s : State} {m : MethodId} {below : List Frame} {meth : Method} {c : Code} (l : Launch) (hflags : l.flags = flags0) {b L : Nat} {xs : Nat → Int32} (hL : L ≤ 384) (C0 : lw_At p s m meth c b L xs) : W p l e room_1 s m #[Value.ref b] below meth c s.heap [] 0 0 (lw_Z below #[Value.ref b] s) (entryFrame m ([Value.ref b] : List Value).toArray 8) := by
  obtain ⟨hx, hcb, hret, hml, hown, hts, hX, hbl, hlocks, hgv⟩ := C0
  obtain ⟨D, hK⟩ := hp_k4 hts
  obtain ⟨B, hB⟩ : ∃ B, s.heap.size = B + 1 := ⟨s.heap.size - 1, by omega⟩
  obtain ⟨mi, hmi⟩ := va_Mi.of (hp_ni_spec hp_mir hgv)
  have G : hp_G l B D s b := ⟨hB, hts, hK, hflags, hgv, mi, hmi⟩
  have E : hp_E B D s p s m #[Value.ref b] meth c code "LifeRentsLaw" meth.name 8 ret := ⟨hx, hcb, hml, hret, hlocks, hown, rfl, fun w h _ => hts w h, hK, State.WarmedH.refl s⟩
  have hR : hp_S B D s st_0 s.heap [] := ⟨⟨hB, Nat.one_pos, fun n hn => absurd rfl hn⟩, fun _ _ => rfl, fun q hq => by cases hq⟩
  have hl := lv_entry ([Value.ref b] : List Value) (n := 8) (by simp [lg_sl, hp_rc])
  rw [lg_entry_eq]
  exact m_L_law G E _ hl st_0 hR hX hbl True (main_pure b L xs hL)
