/-! PURE 1: the state's updates read, lists -/
set_option maxRecDepth 100000
/-- the same at the name a -/
def hp_sa (S S' : hp_St) (a : Nat) : Prop := st_C S' a = st_C S a ∧ st_L S' a = st_L S a ∧ st_I S' a = st_I S a ∧ st_R S' a = st_R S a ∧ st_J S' a = st_J S a
theorem hp_sa.rf {S : hp_St} {a : Nat} : hp_sa S S a := ⟨rfl, rfl, rfl, rfl, rfl⟩
theorem hp_sa.tr {S S1 S2 : hp_St} {a : Nat} (h1 : hp_sa S S1 a) (h2 : hp_sa S1 S2 a) : hp_sa S S2 a := ⟨h2.1.trans h1.1, h2.2.1.trans h1.2.1, h2.2.2.1.trans h1.2.2.1, h2.2.2.2.1.trans h1.2.2.2.1, h2.2.2.2.2.trans h1.2.2.2.2⟩
theorem hp_sa_pI {S : hp_St} {n k a : Nat} {v : Int32} (h : a ≠ n) : hp_sa S (st_pI S n k v) a := ⟨rfl, rfl, by funext j; simp [st_pI_e, h], rfl, rfl⟩
theorem hp_sa_pR {S : hp_St} {n k a v : Nat} (h : a ≠ n) : hp_sa S (st_pR S n k v) a := ⟨rfl, rfl, rfl, by funext j; simp [st_pR_e, h], rfl⟩
theorem hp_sa_nA {S : hp_St} {c len a : Nat} (h : a ≠ st_Z S) : hp_sa S (st_nA S c len) a := ⟨by simp [st_nA, st_C, h], by simp [st_nA, st_L, h], by funext j; simp [st_nA, st_I, h], by funext j; simp [st_nA, st_R, h], by funext j; simp [st_nA, st_J, h]⟩
theorem hp_sa_cpy {S : hp_St} {x y k a : Nat} (h : a ≠ y) : hp_sa S (st_cpy S x y k) a := ⟨rfl, rfl, rfl, by funext j; simp [st_cpy_e, h], rfl⟩
/-- a list: its array, its elements -/
def hp_li (S : hp_St) (l E : Nat) (es : List Nat) : Prop := st_C S l = 17 ∧ st_R S l 1 = E ∧ st_I S l 2 = nI es.length ∧ st_C S E = 54 ∧ es.length ≤ st_L S E ∧ 0 < st_L S E ∧ st_L S E < 65 ∧ ∀ j, j < es.length → st_R S E j = es.getD j 0
theorem hp_li.kept {S S' : hp_St} {l E : Nat} {es : List Nat} (h : hp_li S l E es) (h1 : hp_sa S S' l) (h2 : hp_sa S S' E) : hp_li S' l E es := by
  obtain ⟨a1, a2, a3, a4, a5, a6, a7, a8⟩ := h
  obtain ⟨b1, b2, b3, b4, b5⟩ := h1
  obtain ⟨c1, c2, c3, c4, c5⟩ := h2
  exact ⟨by rw [b1, a1], by rw [b4, a2], by rw [b3, a3], by rw [c1, a4], by rw [c2]; exact a5, by rw [c2]; exact a6, by rw [c2]; exact a7, fun j hj => by rw [c4]; exact a8 j hj⟩
theorem sp_size {S : hp_St} {l E : Nat} {es : List Nat} {Q : Int32 → Prop} (h : hp_li S l E es) (k : Q (nI es.length)) : wp_J2_size l S Q := by
  show Q (st_I S l 2)
  rw [h.2.2.1]
  exact k
theorem sp_get {S : hp_St} {l E j : Nat} {es : List Nat} {Q : Nat → Prop} (h : hp_li S l E es) (hj : j < es.length) (k : Q (es.getD j 0)) : wp_J2_get l (nI j) S Q := by
  obtain ⟨a1, a2, a3, a4, a5, a6, a7, a8⟩ := h
  unfold wp_J2_get wp_J12_checkIndex wp_J5_checkIndex wp_J2_elementData
  refine ⟨fun hb => absurd hb (nI_pos (by omega)), fun _ => ⟨fun _ => ?_, fun hb => absurd (by rw [a3]; exact nI_lt hj (by omega)) hb⟩⟩
  rw [a2]
  refine ⟨a4, vp_in_nI (by omega) (by omega), ?_⟩
  rw [nI_clamp (by omega), a8 j hj]
  exact k
theorem hp_gD {es : List Nat} {v j : Nat} : (es ++ [v]).getD j 0 = if j < es.length then es.getD j 0 else if j = es.length then v else 0 := by
  rw [List.getD_eq_getElem?_getD, List.getElem?_append]
  split
  · rw [List.getD_eq_getElem?_getD]
  · split
    · rename_i h1 h2
      simp [h2]
    · rename_i h1 h2
      rw [List.getElem?_eq_none (by simp; omega)]
      rfl
/-- add, no growth -/
theorem sp_add {S : hp_St} {l E v : Nat} {es : List Nat} {Q : Int32 → hp_St → Prop} (h : hp_li S l E es) (hv : 9 ≤ st_C S v ∧ st_C S v ≤ 16) (hlt : es.length < st_L S E) (k : ∀ S', hp_li S' l E (es ++ [v]) → (∀ a, a ≠ l → a ≠ E → hp_sa S S' a) → st_Z S' = st_Z S → (∀ a, st_C S' a = st_C S a ∧ st_L S' a = st_L S a) → st_R S' l = st_R S l → Q 1 S') : wp_J2_add l v S Q := by
  obtain ⟨a1, a2, a3, a4, a5, a6, a7, a8⟩ := h
  have hlE : l ≠ E := fun h => by rw [h, a4] at a1; cases a1
  unfold wp_J2_add wp_J2_add_2
  intro S1 e1
  have c1 : st_R S1 l 1 = E := by rw [e1]; exact a2
  have c2 : st_I S1 l 2 = nI es.length := by rw [e1]; simp [st_pI_e]; exact a3
  have c3 : st_C S1 = st_C S := by rw [e1]; rfl
  have c4 : st_L S1 = st_L S := by rw [e1]; rfl
  rw [c1, c2, c3, c4]
  refine ⟨a4, fun hb => absurd ((nI_eq (by omega) (by omega)).mp hb) (by omega), fun _ => ?_⟩
  unfold wb_J2_add_2_11
  refine ⟨by rw [c3]; exact a4, by rw [c4]; exact vp_in_nI hlt (by omega), by rw [c3]; exact hv, fun S2 e2 S3 e3 _ => ?_⟩
  rw [nI_clamp (by omega)] at e2
  have f1 : st_C S3 = st_C S := by rw [e3, e2, e1]; rfl
  have f2 : st_L S3 = st_L S := by rw [e3, e2, e1]; rfl
  have f3 : ∀ a j, st_R S3 a j = if a = E ∧ j = es.length then v else st_R S a j := fun a j => by rw [e3, e2, e1]; simp [st_pI_e, st_pR_e]
  refine k S3 ⟨by rw [f1]; exact a1, by rw [f3, if_neg (fun h => hlE h.1)]; exact a2, by rw [e3]; simp [st_pI_e, nI_1], by rw [f1]; exact a4, by rw [f2]; simp; omega, by rw [f2]; exact a6, by rw [f2]; exact a7, fun j hj => ?_⟩ (fun a h1 h2 => ?_) (by rw [e3, e2, e1]; rfl) (fun a => ⟨by rw [f1], by rw [f2]⟩) (by funext j; rw [f3, if_neg (fun h => hlE h.1)])
  · simp at hj
    rw [f3, hp_gD]
    by_cases hx : j = es.length
    · rw [if_pos ⟨rfl, hx⟩, if_neg (by omega), if_pos hx]
    · rw [if_neg (fun h => hx h.2), if_pos (by omega)]
      exact a8 j (by omega)
  · rw [e3, e2, e1]
    exact ((hp_sa_pI h1).tr (hp_sa_pR h2)).tr (hp_sa_pI h1)
