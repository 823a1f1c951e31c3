/-! PURE 4: what both hold -/
set_option maxRecDepth 100000
abbrev mLife : Type := (Int) × (Nat)
abbrev mLife.born (x : mLife) : Int := x.1
abbrev mLife.cls (x : mLife) : Nat := x.2

abbrev mRent : Type := (Nat) × (Nat) × (Nat) × (Option Nat) × (Nat) × (Nat)
abbrev mRent.bought (x : mRent) : Nat := x.1
abbrev mRent.buyer (x : mRent) : Nat := x.2.1
abbrev mRent.first (x : mRent) : Nat := x.2.2.1
abbrev mRent.second (x : mRent) : Option Nat := x.2.2.2.1
abbrev mRent.coins (x : mRent) : Nat := x.2.2.2.2.1
abbrev mRent.price (x : mRent) : Nat := x.2.2.2.2.2

abbrev mSale : Type := (Nat) × (Nat) × (Nat) × (Nat) × (Nat)
abbrev mSale.rent (x : mSale) : Nat := x.1
abbrev mSale.src (x : mSale) : Nat := x.2.1
abbrev mSale.dst (x : mSale) : Nat := x.2.2.1
abbrev mSale.parts (x : mSale) : Nat := x.2.2.2.1
abbrev mSale.half (x : mSale) : Nat := x.2.2.2.2

/-- sort: 0 a proof, 1 a death, 2 a strike -/
abbrev mNote : Type := (Nat) × (Nat) × (Nat) × (Nat)
abbrev mNote.sort (x : mNote) : Nat := x.1
abbrev mNote.whose (x : mNote) : Nat := x.2.1
abbrev mNote.half (x : mNote) : Nat := x.2.2.1
abbrev mNote.told (x : mNote) : Nat := x.2.2.2

abbrev mLine : Type := (Nat) × (Nat) × (Nat) × (Nat) × (Nat) × (Nat) × (Nat) × (Nat)
abbrev mLine.sort (x : mLine) : Nat := x.1
abbrev mLine.amount (x : mLine) : Nat := x.2.1
abbrev mLine.ageLow (x : mLine) : Nat := x.2.2.1
abbrev mLine.ageHigh (x : mLine) : Nat := x.2.2.2.1
abbrev mLine.classes (x : mLine) : Nat := x.2.2.2.2.1
abbrev mLine.halfLow (x : mLine) : Nat := x.2.2.2.2.2.1
abbrev mLine.halfHigh (x : mLine) : Nat := x.2.2.2.2.2.2.1
abbrev mLine.count (x : mLine) : Nat := x.2.2.2.2.2.2.2

abbrev Mdl : Type := (Nat → Nat) × (Nat) × (Nat) × (List mLife) × (List mRent) × (List mSale) × (List mNote) × (List mLine) × (Nat → Nat) × (Nat → Nat) × (Int32) × (Int32) × (Option (Nat → Nat))
abbrev Mdl.tape (x : Mdl) : Nat → Nat := x.1
abbrev Mdl.tsize (x : Mdl) : Nat := x.2.1
abbrev Mdl.now (x : Mdl) : Nat := x.2.2.1
abbrev Mdl.lives (x : Mdl) : List mLife := x.2.2.2.1
abbrev Mdl.rents (x : Mdl) : List mRent := x.2.2.2.2.1
abbrev Mdl.sales (x : Mdl) : List mSale := x.2.2.2.2.2.1
abbrev Mdl.notes (x : Mdl) : List mNote := x.2.2.2.2.2.2.1
abbrev Mdl.lines (x : Mdl) : List mLine := x.2.2.2.2.2.2.2.1
abbrev Mdl.num (x : Mdl) : Nat → Nat := x.2.2.2.2.2.2.2.2.1
abbrev Mdl.table (x : Mdl) : Nat → Nat := x.2.2.2.2.2.2.2.2.2.1
abbrev Mdl.fault (x : Mdl) : Int32 := x.2.2.2.2.2.2.2.2.2.2.1
abbrev Mdl.fplace (x : Mdl) : Int32 := x.2.2.2.2.2.2.2.2.2.2.2.1
abbrev Mdl.named (x : Mdl) : Option (Nat → Nat) := x.2.2.2.2.2.2.2.2.2.2.2.2

def iI (z : Int) : Int32 := Int32.ofInt z
def oI : Option Nat → Int32
  | none => -1
  | some n => nI n
/-- the words, each with a blank behind it -/
def m_words : List Int32 := [109, 97, 121, 32, 98, 97, 114, 32, 112, 114, 105, 99, 101, 32, 108, 117, 109, 112, 32, 97, 114, 114, 101, 97, 114, 115, 32, 119, 97, 105, 116, 32, 114, 97, 116, 101, 32, 99, 97, 112, 32, 97, 103, 101, 32, 99, 108, 97, 115, 115, 32, 104, 97, 108, 102, 32, 106, 111, 105, 110, 116, 32, 115, 105, 110, 103, 108, 101, 32, 116, 111, 32, 111, 114, 32]
/-- the Model's cells hold M -/
def MI (S : hp_St) (M : Mdl) : Prop := (MSH S) ∧ (∀ j, j < 500 → st_I S 62 j = nI (M.tape j)) ∧ (st_I S 61 1 = nI M.tsize) ∧ (st_I S 61 3 = nI M.now) ∧ (st_I S 61 4 = nI M.lives.length) ∧ (∀ j x, M.lives[j]? = some x → st_I S 63 j = iI x.born ∧ st_I S 64 j = nI x.cls) ∧ (st_I S 61 7 = nI M.rents.length) ∧ (∀ j x, M.rents[j]? = some x → st_I S 65 j = nI x.bought ∧ st_I S 66 j = nI x.buyer ∧ st_I S 67 j = nI x.first ∧ st_I S 68 j = oI x.second ∧ st_I S 69 j = nI x.coins ∧ st_I S 70 j = nI (x.coins * x.price)) ∧ (st_I S 61 14 = nI M.sales.length) ∧ (∀ j x, M.sales[j]? = some x → st_I S 71 (5 * j) = nI x.rent ∧ st_I S 71 (5 * j + 1) = nI x.src ∧ st_I S 71 (5 * j + 2) = nI x.dst ∧ st_I S 71 (5 * j + 3) = nI x.parts ∧ st_I S 71 (5 * j + 4) = nI x.half) ∧ (st_I S 61 16 = nI M.notes.length) ∧ (∀ j x, M.notes[j]? = some x → st_I S 72 j = nI x.sort ∧ st_I S 73 j = nI x.whose ∧ st_I S 74 j = nI x.half ∧ st_I S 75 j = nI x.told) ∧ (∀ j, j < 40 → st_I S 76 j = nI (M.table j)) ∧ (∀ j, j < 75 → st_I S 77 j = m_words.getD j 0) ∧ (st_I S 61 23 = M.fault) ∧ (st_I S 61 24 = M.fplace) ∧ (st_I S 61 38 = nI M.lines.length) ∧ (∀ j x, M.lines[j]? = some x → st_I S 78 j = nI x.sort ∧ st_I S 79 j = nI x.amount ∧ st_I S 80 j = nI x.ageLow ∧ st_I S 81 j = nI x.ageHigh ∧ st_I S 82 j = nI x.classes ∧ st_I S 83 j = nI x.halfLow ∧ st_I S 84 j = nI x.halfHigh ∧ st_I S 85 j = nI x.count) ∧ (∀ j, j < 4 → st_I S 86 j = nI (M.num j)) ∧ (st_I S 61 52 = if M.named.isSome then 1 else 0) ∧ (∀ f, M.named = some f → ∀ j, j < 12 → st_I S 93 j = nI (f j))
theorem MI.sh {S : hp_St} {M : Mdl} (h : MI S M) : MSH S := h.1
theorem MI.tape {S : hp_St} {M : Mdl} (h : MI S M) : ∀ j, j < 500 → st_I S 62 j = nI (M.tape j) := h.2.1
theorem MI.tsize {S : hp_St} {M : Mdl} (h : MI S M) : st_I S 61 1 = nI M.tsize := h.2.2.1
theorem MI.now {S : hp_St} {M : Mdl} (h : MI S M) : st_I S 61 3 = nI M.now := h.2.2.2.1
theorem MI.nlives {S : hp_St} {M : Mdl} (h : MI S M) : st_I S 61 4 = nI M.lives.length := h.2.2.2.2.1
theorem MI.lives {S : hp_St} {M : Mdl} (h : MI S M) : ∀ j x, M.lives[j]? = some x → st_I S 63 j = iI x.born ∧ st_I S 64 j = nI x.cls := h.2.2.2.2.2.1
theorem MI.nrents {S : hp_St} {M : Mdl} (h : MI S M) : st_I S 61 7 = nI M.rents.length := h.2.2.2.2.2.2.1
theorem MI.rents {S : hp_St} {M : Mdl} (h : MI S M) : ∀ j x, M.rents[j]? = some x → st_I S 65 j = nI x.bought ∧ st_I S 66 j = nI x.buyer ∧ st_I S 67 j = nI x.first ∧ st_I S 68 j = oI x.second ∧ st_I S 69 j = nI x.coins ∧ st_I S 70 j = nI (x.coins * x.price) := h.2.2.2.2.2.2.2.1
theorem MI.nsales {S : hp_St} {M : Mdl} (h : MI S M) : st_I S 61 14 = nI M.sales.length := h.2.2.2.2.2.2.2.2.1
theorem MI.sales {S : hp_St} {M : Mdl} (h : MI S M) : ∀ j x, M.sales[j]? = some x → st_I S 71 (5 * j) = nI x.rent ∧ st_I S 71 (5 * j + 1) = nI x.src ∧ st_I S 71 (5 * j + 2) = nI x.dst ∧ st_I S 71 (5 * j + 3) = nI x.parts ∧ st_I S 71 (5 * j + 4) = nI x.half := h.2.2.2.2.2.2.2.2.2.1
theorem MI.nnotes {S : hp_St} {M : Mdl} (h : MI S M) : st_I S 61 16 = nI M.notes.length := h.2.2.2.2.2.2.2.2.2.2.1
theorem MI.notes {S : hp_St} {M : Mdl} (h : MI S M) : ∀ j x, M.notes[j]? = some x → st_I S 72 j = nI x.sort ∧ st_I S 73 j = nI x.whose ∧ st_I S 74 j = nI x.half ∧ st_I S 75 j = nI x.told := h.2.2.2.2.2.2.2.2.2.2.2.1
theorem MI.table {S : hp_St} {M : Mdl} (h : MI S M) : ∀ j, j < 40 → st_I S 76 j = nI (M.table j) := h.2.2.2.2.2.2.2.2.2.2.2.2.1
theorem MI.words {S : hp_St} {M : Mdl} (h : MI S M) : ∀ j, j < 75 → st_I S 77 j = m_words.getD j 0 := h.2.2.2.2.2.2.2.2.2.2.2.2.2.1
theorem MI.fault {S : hp_St} {M : Mdl} (h : MI S M) : st_I S 61 23 = M.fault := h.2.2.2.2.2.2.2.2.2.2.2.2.2.2.1
theorem MI.fplace {S : hp_St} {M : Mdl} (h : MI S M) : st_I S 61 24 = M.fplace := h.2.2.2.2.2.2.2.2.2.2.2.2.2.2.2.1
theorem MI.nlines {S : hp_St} {M : Mdl} (h : MI S M) : st_I S 61 38 = nI M.lines.length := h.2.2.2.2.2.2.2.2.2.2.2.2.2.2.2.2.1
theorem MI.lines {S : hp_St} {M : Mdl} (h : MI S M) : ∀ j x, M.lines[j]? = some x → st_I S 78 j = nI x.sort ∧ st_I S 79 j = nI x.amount ∧ st_I S 80 j = nI x.ageLow ∧ st_I S 81 j = nI x.ageHigh ∧ st_I S 82 j = nI x.classes ∧ st_I S 83 j = nI x.halfLow ∧ st_I S 84 j = nI x.halfHigh ∧ st_I S 85 j = nI x.count := h.2.2.2.2.2.2.2.2.2.2.2.2.2.2.2.2.2.1
theorem MI.num {S : hp_St} {M : Mdl} (h : MI S M) : ∀ j, j < 4 → st_I S 86 j = nI (M.num j) := h.2.2.2.2.2.2.2.2.2.2.2.2.2.2.2.2.2.2.1
theorem MI.isNamed {S : hp_St} {M : Mdl} (h : MI S M) : st_I S 61 52 = if M.named.isSome then 1 else 0 := h.2.2.2.2.2.2.2.2.2.2.2.2.2.2.2.2.2.2.2.1
theorem MI.named {S : hp_St} {M : Mdl} (h : MI S M) : ∀ f, M.named = some f → ∀ j, j < 12 → st_I S 93 j = nI (f j) := h.2.2.2.2.2.2.2.2.2.2.2.2.2.2.2.2.2.2.2.2

/-- the ranges -/
def WF (M : Mdl) : Prop := (∀ j, M.tape j < 256) ∧ (M.tsize ≤ 500) ∧ (M.now < 80) ∧ (M.lives.length ≤ 12) ∧ (∀ x ∈ M.lives, -160 ≤ x.born ∧ x.born < 80 ∧ x.cls < 4) ∧ (M.rents.length ≤ 16) ∧ (∀ x ∈ M.rents, x.bought ≤ M.now ∧ x.buyer < 8 ∧ x.first < M.lives.length ∧ (∀ s, x.second = some s → s < M.lives.length ∧ s ≠ x.first) ∧ 1 ≤ x.coins ∧ x.coins ≤ 99 ∧ x.price ≤ 9999) ∧ (M.sales.length ≤ 40) ∧ (∀ x ∈ M.sales, x.rent < M.rents.length ∧ x.src < 8 ∧ x.dst < 8 ∧ x.src ≠ x.dst ∧ 1 ≤ x.parts ∧ x.parts ≤ 60 ∧ x.half ≤ M.now) ∧ (M.notes.length ≤ 60) ∧ (∀ (j : Nat) (x : mNote), M.notes[j]? = some x → x.sort < 3 ∧ x.told ≤ M.now ∧ x.half ≤ M.now ∧ (x.sort < 2 → x.whose < M.lives.length) ∧ (x.sort = 2 → x.whose < j)) ∧ (M.lines.length ≤ 24) ∧ (∀ x ∈ M.lines, x.sort < 4 ∧ x.amount ≤ 9999 ∧ x.ageLow ≤ 130 ∧ (x.ageHigh ≤ 130 ∨ x.ageHigh = 1000) ∧ x.classes < 16 ∧ x.halfLow < 80 ∧ (x.halfHigh < 80 ∨ x.halfHigh = 1000) ∧ x.count < 3) ∧ (M.num 0 ≤ 40 ∧ M.num 1 ≤ 9 ∧ 2 ≤ M.num 2 ∧ M.num 2 ≤ 99 ∧ 1 ≤ M.num 3 ∧ M.num 3 ≤ 3) ∧ (∀ j, M.table j ≤ 1000)
theorem WF.tape {M : Mdl} (h : WF M) : ∀ j, M.tape j < 256 := h.1
theorem WF.tsize {M : Mdl} (h : WF M) : M.tsize ≤ 500 := h.2.1
theorem WF.now {M : Mdl} (h : WF M) : M.now < 80 := h.2.2.1
theorem WF.nlives {M : Mdl} (h : WF M) : M.lives.length ≤ 12 := h.2.2.2.1
theorem WF.lives {M : Mdl} (h : WF M) : ∀ x ∈ M.lives, -160 ≤ x.born ∧ x.born < 80 ∧ x.cls < 4 := h.2.2.2.2.1
theorem WF.nrents {M : Mdl} (h : WF M) : M.rents.length ≤ 16 := h.2.2.2.2.2.1
theorem WF.rents {M : Mdl} (h : WF M) : ∀ x ∈ M.rents, x.bought ≤ M.now ∧ x.buyer < 8 ∧ x.first < M.lives.length ∧ (∀ s, x.second = some s → s < M.lives.length ∧ s ≠ x.first) ∧ 1 ≤ x.coins ∧ x.coins ≤ 99 ∧ x.price ≤ 9999 := h.2.2.2.2.2.2.1
theorem WF.nsales {M : Mdl} (h : WF M) : M.sales.length ≤ 40 := h.2.2.2.2.2.2.2.1
theorem WF.sales {M : Mdl} (h : WF M) : ∀ x ∈ M.sales, x.rent < M.rents.length ∧ x.src < 8 ∧ x.dst < 8 ∧ x.src ≠ x.dst ∧ 1 ≤ x.parts ∧ x.parts ≤ 60 ∧ x.half ≤ M.now := h.2.2.2.2.2.2.2.2.1
theorem WF.nnotes {M : Mdl} (h : WF M) : M.notes.length ≤ 60 := h.2.2.2.2.2.2.2.2.2.1
theorem WF.notes {M : Mdl} (h : WF M) : ∀ (j : Nat) (x : mNote), M.notes[j]? = some x → x.sort < 3 ∧ x.told ≤ M.now ∧ x.half ≤ M.now ∧ (x.sort < 2 → x.whose < M.lives.length) ∧ (x.sort = 2 → x.whose < j) := h.2.2.2.2.2.2.2.2.2.2.1
theorem WF.nlines {M : Mdl} (h : WF M) : M.lines.length ≤ 24 := h.2.2.2.2.2.2.2.2.2.2.2.1
theorem WF.lines {M : Mdl} (h : WF M) : ∀ x ∈ M.lines, x.sort < 4 ∧ x.amount ≤ 9999 ∧ x.ageLow ≤ 130 ∧ (x.ageHigh ≤ 130 ∨ x.ageHigh = 1000) ∧ x.classes < 16 ∧ x.halfLow < 80 ∧ (x.halfHigh < 80 ∨ x.halfHigh = 1000) ∧ x.count < 3 := h.2.2.2.2.2.2.2.2.2.2.2.2.1
theorem WF.num {M : Mdl} (h : WF M) : M.num 0 ≤ 40 ∧ M.num 1 ≤ 9 ∧ 2 ≤ M.num 2 ∧ M.num 2 ≤ 99 ∧ 1 ≤ M.num 3 ∧ M.num 3 ≤ 3 := h.2.2.2.2.2.2.2.2.2.2.2.2.2.1
theorem WF.table {M : Mdl} (h : WF M) : ∀ j, M.table j ≤ 1000 := h.2.2.2.2.2.2.2.2.2.2.2.2.2.2

def M0 : Mdl := ((fun _ => 0), 0, 0, [], [], [], [], [], (fun j => if j = 0 then 4 else if j = 1 then 0 else if j = 2 then 20 else 3), (fun _ => 900), 0, -1, none)
theorem WF0 : WF M0 := ⟨fun _ => (show (0 : Nat) < 256 by decide), by decide, by decide, by decide, fun x hx => (by cases hx), by decide, fun x hx => (by cases hx), by decide, fun x hx => (by cases hx), by decide, fun j x hx => (by cases hx), by decide, fun x hx => (by cases hx), by decide, fun _ => (show (900 : Nat) ≤ 1000 by decide)⟩
