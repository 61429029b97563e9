set_option maxRecDepth 100000
/-! THE WALK's WORLD. Ga: the run (its start, launch, the tables' numbers, array kinds' numbers, constants); Ge: one call -/
abbrev vwAll : List vw_C := [(RX1, TX1, 9), (RX2, TX2, 6), (RX3, TX3, 2), (RX4, TX4, 3), (RX5, TX5, 21), (RX6, TX6, 6), (RX7, TX7, 8), (RX8, TX8, 9), (RX9, TX9, 2), (RX10, TX10, 3), (RJ1, TJ1, 3), (RJ3, TJ3, 4), (RJ4, TJ4, 4)]
/-- which fields hold references -/
def fRf (k j : Nat) : Bool := (([[], [0, 4, 5, 6, 7, 8], [0, 1, 2, 3, 4], [0], [1], [0, 1, 2, 6, 7, 8, 16, 18, 19], [4, 5], [0, 1, 2, 3, 4], [5, 6], [1], [], [0], [0], [0]] : List (List Nat)).getD k []).contains j
/-- the elements of an array's kind -/
def tyA (k : Nat) : FieldType := ([.int, .byte, .boolean, .long, .double, .object "java/lang/Object", .object "TongueProofs$Fact", .array (.object "TongueProofs$Fact"), .object "TongueProofs$Market", .object "TongueProofs$Command", .array .int] : List FieldType).getD (k - 41) .int
abbrev Ga : Type := (State × Launch) × va_G × (Nat → ClassId) × (Nat → Option Nat)
abbrev Ge : Type := (Program × Env × Room) × (State × MethodId × Array Value × List Frame) × (Method × Code) × (Nat × Nat × Nat)
/-- the run's first own cell: what stood before is never written -/
def gaB (Γ : Ga) : Nat := Γ.1.1.heap.size
abbrev gaD (Γ : Ga) : va_G := Γ.2.1
abbrev gaA (Γ : Ga) : Nat → ClassId := Γ.2.2.1
abbrev gaS (Γ : Ga) : Nat → Option Nat := Γ.2.2.2
def tysAll (Γ : Ga) : List (ClassId × FieldType) := [41, 42, 43, 44, 45, 46, 47, 48, 49, 50, 51].map fun k => (gaA Γ k, tyA k)
/-- what a place of a cell holds: an object's field, an array's element -/
def oV (σ : Hp) (q k j : Nat) : Value := if fRf k j = true then va_rf (hR σ q j) else .int (hI σ q j)
def aV (σ : Hp) (q k j : Nat) : Value := if k < 44 then .int (hI σ q j) else if k = 44 then .long (hL σ q j).toInt64 else if k = 45 then .double (hL σ q j) else va_rf (hR σ q j)
/-- a cell of ours that may be written: an object, an array; one that is only read -/
def wcO (Γ : Ga) (σ : Hp) (H : Heap) (q k : Nat) : Prop := ∃ r : vw_C, vwAll[k - 1]? = some r ∧ t_OB q ((gaD Γ).1 (k - 1)) r.2.2 ((gaD Γ).2 (k - 1)) H (oV σ q k)
def wcA (Γ : Ga) (σ : Hp) (H : Heap) (q k : Nat) : Prop := H[q]? = some (arrV (gaA Γ k) (hN σ q) (aV σ q k))
def wcRO (Γ : Ga) (σ : Hp) (H : Heap) (q k : Nat) : Prop := ∃ (r : vw_C) (cell : Cell), vwAll[k - 1]? = some r ∧ H[q]? = some cell ∧ cell.cls = (gaD Γ).1 (k - 1) ∧ cell.vm ≠ .unknown ∧ cell.vm.isStatics = false ∧ ∀ j, j < r.2.2 → cell.slots[(gaD Γ).2 (k - 1) j]? = some (oV σ q k j)
def wcRA (Γ : Ga) (σ : Hp) (H : Heap) (q k : Nat) : Prop := ∃ cell : Cell, H[q]? = some cell ∧ Γ.1.1.isArrayOf cell (tyA k) ∧ cell.vm ≠ .unknown ∧ cell.slots.size = hN σ q ∧ ∀ j, j < hN σ q → cell.slots[j]? = some (aV σ q k j)
/-- a lambda's object: what it captures, in order (kinds 61..): lamT k: which places are references -/
def lamT (k : Nat) : List Bool := ([[false], [], [false], [false], [false], [false, false], [false], [true], [false], [false], [], [], [true, false, false, false, false], [true, false, false, false], [true, false, false, false], [true, false, false], [true, false], [true, false, true]] : List (List Bool)).getD (k - 61) []
def wcL (Γ : Ga) (σ : Hp) (H : Heap) (q k : Nat) : Prop := ∃ cell : Cell, H[q]? = some cell ∧ cell.cls = gaA Γ k ∧ cell.vm = .none ∧ cell.slots = ((lamT k).zipIdx.map fun p => if p.1 = true then va_rf (hR σ q p.2) else .int (hI σ q p.2)).toArray
def wC (Γ : Ga) (σ : Hp) (H : Heap) (q : Nat) : Prop :=
  (0 < hK σ q ∧ hK σ q < 40 ∧ gaB Γ ≤ q ∧ wcO Γ σ H q (hK σ q)) ∨ (41 ≤ hK σ q ∧ hK σ q < 60 ∧ gaB Γ ≤ q ∧ wcA Γ σ H q (hK σ q)) ∨ (61 ≤ hK σ q ∧ hK σ q < 100 ∧ gaB Γ ≤ q ∧ wcL Γ σ H q (hK σ q)) ∨
  (100 < hK σ q ∧ hK σ q < 140 ∧ wcRO Γ σ H q (hK σ q - 100)) ∨ (141 ≤ hK σ q ∧ hK σ q < 160 ∧ wcRA Γ σ H q (hK σ q - 100)) ∨ (161 ≤ hK σ q ∧ hK σ q < 200 ∧ wcL Γ σ H q (hK σ q - 100))
/-- the machine's heap is the mirrors' -/
def Wd (Γ : Ga) (σ : Hp) (H : Heap) : Prop := hSz σ = H.size ∧ gaB Γ ≤ hSz σ ∧ hS σ = gaS Γ ∧ ∀ q, hK σ q ≠ 0 → wC Γ σ H q
/-- a state of the run: warmer tables than the start's, and what stood before stands -/
def Cx (Γ : Ga) (U : State) : Prop := Γ.1.1.WarmedH U.vm ∧ ∀ q, q < gaB Γ → U.heap[q]? = Γ.1.1.heap[q]?
/-- a static that nobody writes, as it is at the start -/
def gaZ (Γ : Ga) (C n d : String) (v : Value) : Prop := va_Z C n d v (fun q => gaB Γ ≤ q) Γ.1.1 Γ.1.1.heap
def GStat (Γ : Ga) : Prop := gaZ Γ "java/lang/String" "COMPACT_STRINGS" "Z" (.int 1) ∧ gaZ Γ "jdk/internal/util/Preconditions" "SIOOBE_FORMATTER" "Ljava/util/function/BiFunction;" (va_rf (gaS Γ 1)) ∧
  gaZ Γ "java/lang/Throwable" "UNASSIGNED_STACK" "[Ljava/lang/StackTraceElement;" (va_rf (gaS Γ 2)) ∧ gaZ Γ "java/lang/Throwable" "SUPPRESSED_SENTINEL" "Ljava/util/List;" (va_rf (gaS Γ 3))
/-- the String constants that the code loads: class, entry, text -/
def strTab : List (String × Nat × String) := [("TongueProofs", 414, "><="), ("TongueProofs$Reader", 15, ""), ("TongueProofs$Reader", 86, "heap"), ("TongueProofs$Reader", 118, "tongue"), ("TongueProofs$Reader", 140, "say"), ("TongueProofs$Reader", 142, "pair"), ("TongueProofs$Reader", 144, "match"), ("TongueProofs$Reader", 146, "close"), ("TongueProofs$Reader", 148, "drop"), ("TongueProofs$Reader", 150, "put"), ("TongueProofs$Reader", 152, "swap"), ("TongueProofs$Reader", 154, "eye"), ("TongueProofs$Reader", 156, "more"), ("TongueProofs$Reader", 158, "less"), ("TongueProofs$Reader", 160, "like"), ("TongueProofsModel", 214, "heap"), ("TongueProofsModel", 225, "tongue"), ("TongueProofsModel", 237, "say"), ("TongueProofsModel", 239, "pair"), ("TongueProofsModel", 241, "match"), ("TongueProofsModel", 243, "close"), ("TongueProofsModel", 245, "drop"), ("TongueProofsModel", 247, "put"), ("TongueProofsModel", 249, "swap"), ("TongueProofsModel", 251, "eye"), ("TongueProofsModel", 253, "more"), ("TongueProofsModel", 255, "less"), ("TongueProofsModel", 257, "like")]
def GStr (Γ : Ga) : Prop := ∀ (i : Nat) (e : String × Nat × String), strTab[i]? = some e → ∃ a, gaS Γ (100 + i) = some a ∧ vk_R e.1 e.2.1 e.2.2 a Γ.1.1
def GNc (Γ : Ga) : Prop := va_Nc "java/lang/IllegalArgumentException" "java/lang/IndexOutOfBoundsException" Γ.1.1 ∧ va_Nc "java/lang/IllegalStateException" "java/lang/IllegalArgumentException" Γ.1.1
/-- the places of the lambdas: class, entry, what is made -/
def lamTab : List (MethodName × Nat × Nat × Lambda.Shape × String) := [(⟨"TongueProofs", "claimsThat", "(I)I"⟩, 8, 164, lzS61, "TongueProofs"), (⟨"TongueProofs", "count", "(I)I"⟩, 118, 181, lzS62, "TongueProofs"), (⟨"TongueProofs", "trader", "(II)I"⟩, 62, 197, lzS63, "TongueProofs"), (⟨"TongueProofs", "trader", "(II)I"⟩, 79, 198, lzS64, "TongueProofs"), (⟨"TongueProofs", "trader", "(II)I"⟩, 96, 201, lzS65, "TongueProofs"), (⟨"TongueProofs", "trader", "(II)I"⟩, 114, 202, lzS66, "TongueProofs"), (⟨"TongueProofs", "heap", "(II)I"⟩, 97, 219, lzS67, "TongueProofs"), (⟨"TongueProofs", "gap", "()I"⟩, 16, 355, lzS68, "TongueProofs"), (⟨"TongueProofs", "honesty", "(I)F"⟩, 13, 358, lzS69, "TongueProofs"), (⟨"TongueProofs", "honesty", "(I)F"⟩, 30, 359, lzS70, "TongueProofs"), (⟨"TongueProofs", "meanTurns", "()D"⟩, 7, 360, lzS71, "TongueProofs"), (⟨"TongueProofs", "meanTurns", "()D"⟩, 23, 363, lzS72, "TongueProofs"), (⟨"TongueProofs$Reader", "command", "(Ljava/lang/String;)LTongueProofs$Command;"⟩, 205, 185, lzS73, "TongueProofs$Reader"), (⟨"TongueProofs$Reader", "command", "(Ljava/lang/String;)LTongueProofs$Command;"⟩, 243, 189, lzS74, "TongueProofs$Reader"), (⟨"TongueProofs$Reader", "command", "(Ljava/lang/String;)LTongueProofs$Command;"⟩, 282, 192, lzS75, "TongueProofs$Reader"), (⟨"TongueProofs$Reader", "command", "(Ljava/lang/String;)LTongueProofs$Command;"⟩, 311, 193, lzS76, "TongueProofs$Reader"), (⟨"TongueProofs$Reader", "command", "(Ljava/lang/String;)LTongueProofs$Command;"⟩, 329, 196, lzS77, "TongueProofs$Reader"), (⟨"TongueProofs$Reader", "command", "(Ljava/lang/String;)LTongueProofs$Command;"⟩, 348, 199, lzS78, "TongueProofs$Reader")]
def GLam (Γ : Ga) : Prop := ∀ (i : Nat) (e : MethodName × Nat × Nat × Lambda.Shape × String), lamTab[i]? = some e → ∃ one, Γ.1.1.lambdaAt? e.1 e.2.1 e.2.2.1 e.2.2.2.1 = some (gaA Γ (61 + i), one) ∧ (e.2.2.2.1.captured = [] → one = gaS Γ (61 + i))
/-- what holds of the run's start -/
def Gok (Γ : Ga) : Prop := (∃ a0 : Array Value, ∀ w ∈ lw_tbl, w.before a0 Γ.1.1 = true) ∧ va_K (gaD Γ) vwAll (tysAll Γ) Γ.1.1 ∧ Γ.1.2.stackTraces = false ∧ GStat Γ ∧ GStr Γ ∧ GNc Γ ∧ GLam Γ
def gW (Γ : Ga) (G : Ge) (H : Heap) (locs : List Loc) (cells slots : Nat) (Q : State → Prop) (g : JFrame) : Prop :=
  W G.1.1 Γ.1.2 G.1.2.1 G.1.2.2 G.2.1.1 G.2.1.2.1 G.2.1.2.2.1 G.2.1.2.2.2 G.2.2.1.1 G.2.2.1.2 H locs cells slots Q g
abbrev geS (G : Ge) : State := G.2.1.1
abbrev geM (G : Ge) : MethodId := G.2.1.2.1
abbrev geR (G : Ge) : Room := G.1.2.2
abbrev geZ (G : Ge) : Nat := G.2.2.2.1
abbrev geL (G : Ge) : Nat := G.2.2.2.2.1
abbrev geN (G : Ge) : Nat := G.2.2.2.2.2
/-- a call of a method with this code in this run -/
def Gk (Γ : Ga) (G : Ge) (own : String) (cc : ByteArray) (F L : Nat) (r : Option FieldType) : Prop :=
  G.1.1.tables.exec = Jvm.exec ∧ G.2.2.1.2.code = cc ∧ G.2.2.1.2.maxLocals = geN G ∧ (geS G).vm.findClass own = some (geM G).cls ∧ (∀ w ∈ lw_all, w.before G.2.1.2.2.1 (geS G) = true) ∧
  Gok Γ ∧ Cx Γ (geS G) ∧ (geR G).frames = F ∧ (geR G).locals = L ∧ G.2.2.1.1.sig.returnType = r ∧ G.2.2.1.1.locks = false ∧ va_K (gaD Γ) vwAll (tysAll Γ) (geS G) ∧ (geS G).heap.size = geZ G ∧ gaB Γ ≤ (geS G).heap.size
/-- what the walk knows of heap and writes -/
def Fr (Γ : Ga) (G : Ge) (H : Heap) (locs : List Loc) : Prop := (∀ q, q < gaB Γ → H[q]? = (geS G).heap[q]?) ∧ (geS G).heap.size ≤ H.size ∧ ∀ l ∈ locs, gaB Γ ≤ l.base
/-- THE WALK: whatever the mirror says of the way from here, the machine does -/
def VM {α : Type} (Γ : Ga) (G : Ge) (QB : α → Hp → State → Prop) (m : Mr α) (σ : Hp) (pc : Nat) (lv : List (Nat × Value)) (st : List Value) : Prop :=
  ∀ (x : α) (σ' : Hp), run m σ = some (x, σ') → (hSz σ' ≤ geZ G + (geR G).cells ∧ hSl σ' ≤ geL G + (geR G).slots) →
    ∀ (H : Heap) (locs : List Loc) (cells slots : Nat) (ls : Array Slot), Wd Γ σ H → Fr Γ G H locs → (hSz σ = geZ G + cells ∧ hSl σ = geL G + slots) → lv_has ls (geN G) lv →
      gW Γ G H locs cells slots (QB x σ') (F0 (geM G) pc ls st)
/-- a return, as the contract has it -/
def QR {α : Type} (Γ : Ga) (ev : α → Option Value) (x : α) (σ' : Hp) : Array Value → State → Outcome → State → Prop := fun _ st o t => o = .returned (ev x) ∧ Wd Γ σ' t.heap ∧ (∀ q, q < gaB Γ → t.heap[q]? = st.heap[q]?) ∧ st.heap.size ≤ t.heap.size
def QN {α : Type} (Γ : Ga) (G : Ge) (ev : α → Option Value) (x : α) (σ' : Hp) : State → Prop := MQ G.2.1.2.2.2 (QR Γ ev x σ') G.2.1.2.2.1 (geS G) (hSz σ' - geZ G) (hSl σ' - geL G) (fun q => gaB Γ ≤ q)
/-- A METHOD's CONTRACT: it does what its mirror says -/
def Ct {α : Type} (Γ : Ga) (y : MethodName) (ws : List Cond) (F L : Nat) (ev : α → Option Value) (f : Mr α) (av : List Value) : Prop :=
  ∀ (σ : Hp) (x : α) (σ' : Hp), run f σ = some (x, σ') → Met Γ.1.2 y ws { frames := F, cells := hSz σ' - hSz σ, slots := hSl σ' - hSl σ, locals := L } (va_Pc av (fun U => Wd Γ σ U.heap ∧ Cx Γ U)) (QR Γ ev x σ') (hSz σ' - hSz σ) (hSl σ' - hSl σ) (fun q => gaB Γ ≤ q)
def evI (x : Int32) : Option Value := some (.int x)
def evU (_ : Unit) : Option Value := none
def evR (r : Option Nat) : Option Value := some (va_rf r)
def evJ (x : Int64) : Option Value := some (.long x)
def evF (x : UInt32) : Option Value := some (.float x)
def evD (x : UInt64) : Option Value := some (.double x)
theorem Gk.exec {Γ G own cc F L r} (h : Gk Γ G own cc F L r) : G.1.1.tables.exec = Jvm.exec := h.1
theorem Gk.bytes {Γ G own cc F L r} (h : Gk Γ G own cc F L r) : G.2.2.1.2.code = cc := h.2.1
theorem Gk.maxL {Γ G own cc F L r} (h : Gk Γ G own cc F L r) : G.2.2.1.2.maxLocals = geN G := h.2.2.1
theorem Gk.own {Γ G own cc F L r} (h : Gk Γ G own cc F L r) : (geS G).vm.findClass own = some (geM G).cls := h.2.2.2.1
theorem Gk.hts {Γ G own cc F L r} (h : Gk Γ G own cc F L r) : ∀ w ∈ lw_all, w.before G.2.1.2.2.1 (geS G) = true := h.2.2.2.2.1
theorem Gk.ok {Γ G own cc F L r} (h : Gk Γ G own cc F L r) : Gok Γ := h.2.2.2.2.2.1
theorem Gk.cx {Γ G own cc F L r} (h : Gk Γ G own cc F L r) : Cx Γ (geS G) := h.2.2.2.2.2.2.1
theorem Gk.frames {Γ G own cc F L r} (h : Gk Γ G own cc F L r) : (geR G).frames = F := h.2.2.2.2.2.2.2.1
theorem Gk.locals {Γ G own cc F L r} (h : Gk Γ G own cc F L r) : (geR G).locals = L := h.2.2.2.2.2.2.2.2.1
theorem Gk.ret {Γ G own cc F L r} (h : Gk Γ G own cc F L r) : G.2.2.1.1.sig.returnType = r := h.2.2.2.2.2.2.2.2.2.1
theorem Gk.locks {Γ G own cc F L r} (h : Gk Γ G own cc F L r) : G.2.2.1.1.locks = false := h.2.2.2.2.2.2.2.2.2.2.1
theorem Gk.vk {Γ G own cc F L r} (h : Gk Γ G own cc F L r) : va_K (gaD Γ) vwAll (tysAll Γ) (geS G) := h.2.2.2.2.2.2.2.2.2.2.2.1
theorem Gk.size {Γ G own cc F L r} (h : Gk Γ G own cc F L r) : (geS G).heap.size = geZ G := h.2.2.2.2.2.2.2.2.2.2.2.2.1
theorem Gk.base {Γ G own cc F L r} (h : Gk Γ G own cc F L r) : gaB Γ ≤ (geS G).heap.size := h.2.2.2.2.2.2.2.2.2.2.2.2.2
theorem Cx.warm {Γ : Ga} {s U : State} (h : Cx Γ s) (hW : s.WarmedH U.vm) (hh : ∀ q, q < gaB Γ → U.heap[q]? = s.heap[q]?) : Cx Γ U := ⟨State.WarmedH.trans h.1 hW, fun q hq => (hh q hq).trans (h.2 q hq)⟩
theorem va_ofWF {l : Launch} {y : MethodName} {ws ws' : List Cond} {rm : Room} {Pc : Array Value → State → Prop} {Qc : Array Value → State → Outcome → State → Prop} {mc ms : Nat} {free : Addr → Prop} {cc : ByteArray} {maxL : Nat} {ret : Option FieldType}
    (hy : plainFor y = true) (hw : ws = Cond.code y cc maxL ret :: ws')
    (body : ∀ p e s m args below meth c s₁, BodyLoose p l y (headSpec ws rm) cc maxL ret e s m args below meth c s₁ → c.maxLocals = maxL → Pc args s →
      W p l e (headSpec ws rm).room s m args below meth c s.heap [] 0 0 (MQ below Qc args s mc ms free) (entryFrame m args maxL)) : Met l y ws rm Pc Qc mc ms free := by
  refine Jvm.Free.MetFree.of_bodySF (code := cc) (maxLocals := maxL) (ret := ret) hy ?_ ?_
  · intro args s m h hn
    obtain ⟨meth, c, h1, h2, h3, h4, h5, h6, -, -⟩ := Cond.code_spec hn (atoms_spec (ws := ws) h _ (by rw [hw]; exact List.mem_cons_self))
    exact ⟨meth, c, h1, h2, h3, h4, h5, h6⟩
  · intro p e s m args below meth c s₁ B hml hP _
    have hh0 : s₁.heap = s.heap := by rw [B.state]; rfl
    obtain ⟨t, a1, o, b1, b2, b3⟩ := body p e s m args below meth c s₁ B hml hP s₁ hh0 (Stand.of_body B)
    exact ⟨t, o, a1, b1, b2, ⟨b3.1, b3.2⟩⟩
theorem mathRows : (Jvm.natives.all fun r => r.cls != "java/lang/Math" || !(["(I)I", "(II)I"] : List String).contains r.desc) = true := by decide +kernel
theorem va_math {x : MethodName} (hc : x.cls = "java/lang/Math") (hd : (["(I)I", "(II)I"] : List String).contains x.desc = true) : plainFor x = true := by
  unfold plainFor
  rw [Bool.or_eq_true]; right
  rw [Option.isNone_iff_eq_none, NativeRow.find?, List.find?_eq_none]
  intro r hr h
  have := List.all_eq_true.mp mathRows r hr
  simp only [Bool.and_eq_true, beq_iff_eq] at h
  rw [h.1.2, h.2, hc, hd] at this
  simp at this
theorem va_plain {y : MethodName} (h : plainName y.cls = true) : plainFor y = true := plainFor_of_name h
/-- from the machine's entry to the walk -/
theorem ct_of {Γ : Ga} {α : Type} {own : String} {y : MethodName} {cc : ByteArray} {nL F L : Nat} {r : Option FieldType} {ev : α → Option Value} {f : Mr α} {av : List Value} (hΓ : Gok Γ) (hy : plainFor y = true) (ho : y.cls = own) (hn : (lg_sl av).length ≤ nL)
    (body : ∀ (G : Ge), Gk Γ G own cc F L r → geN G = nL → ((geS G).methodNamed? y = some (geM G) ∧ (own = y.cls → y.name = "<init>" → G.2.2.1.1.name = "<init>")) → ∀ σ : Hp, VM Γ G (QN Γ G ev) f σ 0 (lv_args 0 av) []) : Ct Γ y (ws_ y cc nL r) F L ev f av := by
  intro σ x σ' hm
  refine va_ofWF (cc := cc) (maxL := nL) (ret := r) hy rfl ?_
  intro p e s m args below meth c s₁ B hml hv
  obtain ⟨rfl, hW, hC⟩ := hv
  have hts := atoms_spec (ws := ws_ y cc nL r) B.pre
  have hts : ∀ w ∈ lw_all, w.before _ s = true := fun w h => hts w (List.mem_cons_of_mem _ h)
  have hown : s.vm.findClass own = some m.cls := by rw [← ho]; exact findClass_of_methodNamed B.named
  have hin : own = y.cls → y.name = "<init>" → meth.name = "<init>" := fun _ h => (name_of_methodNamed B.named B.method).1.trans h
  have hl := lv_entry av (n := nL) hn
  rw [lg_entry_eq]
  generalize (lg_sl av ++ List.replicate (nL - (lg_sl av).length) Slot.unset).toArray = ls at hl ⊢
  have hle := run_le hm
  have hG : Gk Γ ((p, e, (headSpec (ws_ y cc nL r) { frames := F, cells := hSz σ' - hSz σ, slots := hSl σ' - hSl σ, locals := L }).room), (s, m, av.toArray, below), (meth, c), (hSz σ, hSl σ, nL)) own cc F L r :=
    ⟨B.exec, B.bytes, hml, hown, hts, hΓ, hC, rfl, rfl, B.returns, B.notSynchronized, va_K.moved hC.1.alike hΓ.2.1, hW.1.symm, hW.1 ▸ hW.2.1⟩
  have hle1 := hle.1
  have hle2 := hle.2.1
  have K := body _ hG rfl ⟨B.named, hin⟩ σ x σ' hm (by show hSz σ' ≤ hSz σ + (hSz σ' - hSz σ) ∧ hSl σ' ≤ hSl σ + (hSl σ' - hSl σ); omega) s.heap [] 0 0 ls hW ⟨fun _ _ => rfl, Nat.le_refl _, fun _ h => by cases h⟩ ⟨rfl, rfl⟩ hl
  exact K
theorem va_rf_cat (r : Option Nat) : (va_rf r).category = 1 := by cases r <;> rfl
theorem lsn_0 {n : Nat} : (lg_sl []).length ≤ n := Nat.zero_le _
theorem lsn_1 {v : Value} {l : List Value} {n : Nat} (hc : v.category = 1) (h : (lg_sl l).length ≤ n) : (lg_sl (v :: l)).length ≤ n + 1 := by
  have e : lg_sl (v :: l) = Slot.val v :: lg_sl l := by
    unfold lg_sl
    rw [List.flatMap_cons, if_neg (by rw [hc]; decide)]; rfl
  rw [e]; exact Nat.succ_le_succ h
theorem lsn_rf {v : Option Nat} {l : List Value} {n : Nat} (h : (lg_sl l).length ≤ n) : (lg_sl (va_rf v :: l)).length ≤ n + 1 := lsn_1 (va_rf_cat v) h
theorem lsn_2 {v : Value} {l : List Value} {n : Nat} (hc : v.category = 2) (h : (lg_sl l).length ≤ n) : (lg_sl (v :: l)).length ≤ n + 2 := by
  have e : lg_sl (v :: l) = Slot.val v :: Slot.second :: lg_sl l := by
    unfold lg_sl
    rw [List.flatMap_cons, if_pos hc]; rfl
  rw [e]; exact Nat.succ_le_succ (Nat.succ_le_succ h)
section VR
variable {Γ : Ga} {G : Ge} {own : String} {cc : ByteArray} {F L : Nat} {rt0 : Option FieldType} {β : Type} {QB : β → Hp → State → Prop} {mm : Mr β} {σ : Hp} {pc : Nat} {lv : List (Nat × Value)} {st : List Value}
theorem v_no (hG : Gk Γ G own cc F L rt0) : VM Γ G QB no σ pc lv st := fun _ _ hm => by cases hm
theorem v_sub {lv' : List (Nat × Value)} (ks : List Nat) (hl : lv_pick lv ks = lv') (k : VM Γ G QB mm σ pc lv' st) : VM Γ G QB mm σ pc lv st := fun x σ' hm hr H locs cells slots ls hW hF hc h => k x σ' hm hr H locs cells slots ls hW hF hc (lv_sub h ks hl)
theorem v_nm {α : Type} {v : α} {f : α → Mr β} (k : ∀ z, z = v → VM Γ G QB (f z) σ pc lv st) : VM Γ G QB (nm v f) σ pc lv st := k v rfl
theorem v_if {c : Prop} [Decidable c] {a b : Mr β} (kt : c → VM Γ G QB a σ pc lv st) (kf : ¬ c → VM Γ G QB b σ pc lv st) : VM Γ G QB (if c then a else b) σ pc lv st := by
  by_cases h : c
  · rw [if_pos h]; exact kt h
  · rw [if_neg h]; exact kf h
theorem v_pc {pc' : Nat} (h : pc = pc') (k : VM Γ G QB mm σ pc' lv st) : VM Γ G QB mm σ pc lv st := h ▸ k
theorem v_iconst (hG : Gk Γ G own cc F L rt0) {n : Int} {v : Int32} (hd : decode cc pc = .ok (.iconst n, 1)) (hv : Int32.ofInt n = v) (k : VM Γ G QB mm σ (pc + 1) lv (.int v :: st)) : VM Γ G QB mm σ pc lv (st) := fun a σ' hm hr H locs cells slots ls hW hF hc hl => lv_iconst hG.exec hG.bytes hd hv (k a σ' hm hr H locs cells slots ls hW hF hc hl)
theorem v_bipush (hG : Gk Γ G own cc F L rt0) {n : Int} {v : Int32} (hd : decode cc pc = .ok (.bipush n, 2)) (hv : (Int8.ofInt n).toInt32 = v) (k : VM Γ G QB mm σ (pc + 2) lv (.int v :: st)) : VM Γ G QB mm σ pc lv (st) := fun a σ' hm hr H locs cells slots ls hW hF hc hl => lv_bipush hG.exec hG.bytes hd hv (k a σ' hm hr H locs cells slots ls hW hF hc hl)
theorem v_sipush (hG : Gk Γ G own cc F L rt0) {n : Int} {v : Int32} (hd : decode cc pc = .ok (.sipush n, 3)) (hv : (Int16.ofInt n).toInt32 = v) (k : VM Γ G QB mm σ (pc + 3) lv (.int v :: st)) : VM Γ G QB mm σ pc lv (st) := fun a σ' hm hr H locs cells slots ls hW hF hc hl => lv_sipush hG.exec hG.bytes hd hv (k a σ' hm hr H locs cells slots ls hW hF hc hl)
theorem v_lconst (hG : Gk Γ G own cc F L rt0) {n : Fin 2} {v : Int64} (hd : decode cc pc = .ok (.lconst n, 1)) (hv : Int64.ofNat (n : Nat) = v) (k : VM Γ G QB mm σ (pc + 1) lv (.long v :: st)) : VM Γ G QB mm σ pc lv (st) := fun a σ' hm hr H locs cells slots ls hW hF hc hl => lv_lconst hG.exec hG.bytes hd hv (k a σ' hm hr H locs cells slots ls hW hF hc hl)
theorem v_fconst0 (hG : Gk Γ G own cc F L rt0) (hd : decode cc pc = .ok (.fconst 0, 1)) (k : VM Γ G QB mm σ (pc + 1) lv (.float FP.fconst0 :: st)) : VM Γ G QB mm σ pc lv (st) := fun a σ' hm hr H locs cells slots ls hW hF hc hl => lv_fconst0 hG.exec hG.bytes hd (k a σ' hm hr H locs cells slots ls hW hF hc hl)
theorem v_fconst1 (hG : Gk Γ G own cc F L rt0) (hd : decode cc pc = .ok (.fconst 1, 1)) (k : VM Γ G QB mm σ (pc + 1) lv (.float FP.fconst1 :: st)) : VM Γ G QB mm σ pc lv (st) := fun a σ' hm hr H locs cells slots ls hW hF hc hl => lv_fconst1 hG.exec hG.bytes hd (k a σ' hm hr H locs cells slots ls hW hF hc hl)
theorem v_dconst0 (hG : Gk Γ G own cc F L rt0) (hd : decode cc pc = .ok (.dconst 0, 1)) (k : VM Γ G QB mm σ (pc + 1) lv (.double FP.dconst0 :: st)) : VM Γ G QB mm σ pc lv (st) := fun a σ' hm hr H locs cells slots ls hW hF hc hl => lv_dconst0 hG.exec hG.bytes hd (k a σ' hm hr H locs cells slots ls hW hF hc hl)
theorem v_null (hG : Gk Γ G own cc F L rt0) (hd : decode cc pc = .ok (.aconst_null, 1)) (k : VM Γ G QB mm σ (pc + 1) lv (.null :: st)) : VM Γ G QB mm σ pc lv (st) := fun a σ' hm hr H locs cells slots ls hW hF hc hl => lv_null hG.exec hG.bytes hd (k a σ' hm hr H locs cells slots ls hW hF hc hl)
theorem v_iadd (hG : Gk Γ G own cc F L rt0) {x y : Int32} (hd : decode cc pc = .ok (.iadd, 1)) (k : VM Γ G QB mm σ (pc + 1) lv (.int (x + y) :: st)) : VM Γ G QB mm σ pc lv (.int y :: .int x :: st) := fun a σ' hm hr H locs cells slots ls hW hF hc hl => lv_iadd hG.exec hG.bytes hd (k a σ' hm hr H locs cells slots ls hW hF hc hl)
theorem v_isub (hG : Gk Γ G own cc F L rt0) {x y : Int32} (hd : decode cc pc = .ok (.isub, 1)) (k : VM Γ G QB mm σ (pc + 1) lv (.int (x - y) :: st)) : VM Γ G QB mm σ pc lv (.int y :: .int x :: st) := fun a σ' hm hr H locs cells slots ls hW hF hc hl => lv_isub hG.exec hG.bytes hd (k a σ' hm hr H locs cells slots ls hW hF hc hl)
theorem v_imul (hG : Gk Γ G own cc F L rt0) {x y : Int32} (hd : decode cc pc = .ok (.imul, 1)) (k : VM Γ G QB mm σ (pc + 1) lv (.int (x * y) :: st)) : VM Γ G QB mm σ pc lv (.int y :: .int x :: st) := fun a σ' hm hr H locs cells slots ls hW hF hc hl => lv_imul hG.exec hG.bytes hd (k a σ' hm hr H locs cells slots ls hW hF hc hl)
theorem v_iand (hG : Gk Γ G own cc F L rt0) {x y : Int32} (hd : decode cc pc = .ok (.iand, 1)) (k : VM Γ G QB mm σ (pc + 1) lv (.int (x &&& y) :: st)) : VM Γ G QB mm σ pc lv (.int y :: .int x :: st) := fun a σ' hm hr H locs cells slots ls hW hF hc hl => lv_iand hG.exec hG.bytes hd (k a σ' hm hr H locs cells slots ls hW hF hc hl)
theorem v_ior (hG : Gk Γ G own cc F L rt0) {x y : Int32} (hd : decode cc pc = .ok (.ior, 1)) (k : VM Γ G QB mm σ (pc + 1) lv (.int (x ||| y) :: st)) : VM Γ G QB mm σ pc lv (.int y :: .int x :: st) := fun a σ' hm hr H locs cells slots ls hW hF hc hl => lv_ior hG.exec hG.bytes hd (k a σ' hm hr H locs cells slots ls hW hF hc hl)
theorem v_ixor (hG : Gk Γ G own cc F L rt0) {x y : Int32} (hd : decode cc pc = .ok (.ixor, 1)) (k : VM Γ G QB mm σ (pc + 1) lv (.int (x ^^^ y) :: st)) : VM Γ G QB mm σ pc lv (.int y :: .int x :: st) := fun a σ' hm hr H locs cells slots ls hW hF hc hl => lv_ixor hG.exec hG.bytes hd (k a σ' hm hr H locs cells slots ls hW hF hc hl)
theorem v_ishl (hG : Gk Γ G own cc F L rt0) {x y : Int32} (hd : decode cc pc = .ok (.ishl, 1)) (k : VM Γ G QB mm σ (pc + 1) lv (.int (x <<< (y &&& 31)) :: st)) : VM Γ G QB mm σ pc lv (.int y :: .int x :: st) := fun a σ' hm hr H locs cells slots ls hW hF hc hl => lv_ishl hG.exec hG.bytes hd (k a σ' hm hr H locs cells slots ls hW hF hc hl)
theorem v_ishr (hG : Gk Γ G own cc F L rt0) {x y : Int32} (hd : decode cc pc = .ok (.ishr, 1)) (k : VM Γ G QB mm σ (pc + 1) lv (.int (x >>> (y &&& 31)) :: st)) : VM Γ G QB mm σ pc lv (.int y :: .int x :: st) := fun a σ' hm hr H locs cells slots ls hW hF hc hl => lv_ishr hG.exec hG.bytes hd (k a σ' hm hr H locs cells slots ls hW hF hc hl)
theorem v_ineg (hG : Gk Γ G own cc F L rt0) {x : Int32} (hd : decode cc pc = .ok (.ineg, 1)) (k : VM Γ G QB mm σ (pc + 1) lv (.int (-x) :: st)) : VM Γ G QB mm σ pc lv (.int x :: st) := fun a σ' hm hr H locs cells slots ls hW hF hc hl => lv_ineg hG.exec hG.bytes hd (k a σ' hm hr H locs cells slots ls hW hF hc hl)
theorem v_i2b (hG : Gk Γ G own cc F L rt0) {x : Int32} (hd : decode cc pc = .ok (.i2b, 1)) (k : VM Γ G QB mm σ (pc + 1) lv (.int x.toInt8.toInt32 :: st)) : VM Γ G QB mm σ pc lv (.int x :: st) := fun a σ' hm hr H locs cells slots ls hW hF hc hl => lv_i2b hG.exec hG.bytes hd rfl (k a σ' hm hr H locs cells slots ls hW hF hc hl)
theorem v_i2c (hG : Gk Γ G own cc F L rt0) {x : Int32} (hd : decode cc pc = .ok (.i2c, 1)) (k : VM Γ G QB mm σ (pc + 1) lv (.int (x.toUInt32 % 65536).toInt32 :: st)) : VM Γ G QB mm σ pc lv (.int x :: st) := fun a σ' hm hr H locs cells slots ls hW hF hc hl => lv_i2c hG.exec hG.bytes hd rfl (k a σ' hm hr H locs cells slots ls hW hF hc hl)
theorem v_i2l (hG : Gk Γ G own cc F L rt0) {x : Int32} (hd : decode cc pc = .ok (.i2l, 1)) (k : VM Γ G QB mm σ (pc + 1) lv (.long x.toInt64 :: st)) : VM Γ G QB mm σ pc lv (.int x :: st) := fun a σ' hm hr H locs cells slots ls hW hF hc hl => lv_i2l hG.exec hG.bytes hd rfl (k a σ' hm hr H locs cells slots ls hW hF hc hl)
theorem v_i2f (hG : Gk Γ G own cc F L rt0) {x : Int32} (hd : decode cc pc = .ok (.i2f, 1)) (k : VM Γ G QB mm σ (pc + 1) lv (.float (FP.i2f x) :: st)) : VM Γ G QB mm σ pc lv (.int x :: st) := fun a σ' hm hr H locs cells slots ls hW hF hc hl => lv_i2f hG.exec hG.bytes hd (k a σ' hm hr H locs cells slots ls hW hF hc hl)
theorem v_i2d (hG : Gk Γ G own cc F L rt0) {x : Int32} (hd : decode cc pc = .ok (.i2d, 1)) (k : VM Γ G QB mm σ (pc + 1) lv (.double (FP.i2d x) :: st)) : VM Γ G QB mm σ pc lv (.int x :: st) := fun a σ' hm hr H locs cells slots ls hW hF hc hl => lv_i2d hG.exec hG.bytes hd (k a σ' hm hr H locs cells slots ls hW hF hc hl)
theorem v_lcmp (hG : Gk Γ G own cc F L rt0) {x y : Int64} (hd : decode cc pc = .ok (.lcmp, 1)) (k : VM Γ G QB mm σ (pc + 1) lv (.int (lg_cmp x y) :: st)) : VM Γ G QB mm σ pc lv (.long y :: .long x :: st) := fun a σ' hm hr H locs cells slots ls hW hF hc hl => W.lcmp hG.exec hG.bytes hd (k a σ' hm hr H locs cells slots ls hW hF hc hl)
theorem v_fcmp (hG : Gk Γ G own cc F L rt0) {x y : UInt32} {op : CmpOp} (hd : decode cc pc = .ok (.fcmp op, 1)) (k : VM Γ G QB mm σ (pc + 1) lv (.int (Op.cmpValue (FP.fcmp x y) op) :: st)) : VM Γ G QB mm σ pc lv (.float y :: .float x :: st) := fun a σ' hm hr H locs cells slots ls hW hF hc hl => lv_fcmp hG.exec hG.bytes hd (k a σ' hm hr H locs cells slots ls hW hF hc hl)
theorem v_dcmp (hG : Gk Γ G own cc F L rt0) {x y : UInt64} {op : CmpOp} (hd : decode cc pc = .ok (.dcmp op, 1)) (k : VM Γ G QB mm σ (pc + 1) lv (.int (Op.cmpValue (FP.dcmp x y) op) :: st)) : VM Γ G QB mm σ pc lv (.double y :: .double x :: st) := fun a σ' hm hr H locs cells slots ls hW hF hc hl => lv_dcmp hG.exec hG.bytes hd (k a σ' hm hr H locs cells slots ls hW hF hc hl)
theorem v_dup (hG : Gk Γ G own cc F L rt0) {va : Value} (hd : decode cc pc = .ok (.dup, 1)) (hva : va.category = 1) (k : VM Γ G QB mm σ (pc + 1) lv (va :: va :: st)) : VM Γ G QB mm σ pc lv (va :: st) := fun a σ' hm hr H locs cells slots ls hW hF hc hl => lv_dup hG.exec hG.bytes hd hva (k a σ' hm hr H locs cells slots ls hW hF hc hl)
theorem v_pop (hG : Gk Γ G own cc F L rt0) {va : Value} (hd : decode cc pc = .ok (.pop, 1)) (hva : va.category = 1) (k : VM Γ G QB mm σ (pc + 1) lv (st)) : VM Γ G QB mm σ pc lv (va :: st) := fun a σ' hm hr H locs cells slots ls hW hF hc hl => lv_pop hG.exec hG.bytes hd hva (k a σ' hm hr H locs cells slots ls hW hF hc hl)
theorem v_dup_x1 (hG : Gk Γ G own cc F L rt0) {va vb : Value} (hd : decode cc pc = .ok (.dup_x1, 1)) (hva : va.category = 1) (hvb : vb.category = 1) (k : VM Γ G QB mm σ (pc + 1) lv (va :: vb :: va :: st)) : VM Γ G QB mm σ pc lv (va :: vb :: st) := fun a σ' hm hr H locs cells slots ls hW hF hc hl => lv_dup_x1 hG.exec hG.bytes hd hva hvb (k a σ' hm hr H locs cells slots ls hW hF hc hl)
theorem v_dup2 (hG : Gk Γ G own cc F L rt0) {va vb : Value} (hd : decode cc pc = .ok (.dup2, 1)) (hva : va.category = 1) (hvb : vb.category = 1) (k : VM Γ G QB mm σ (pc + 1) lv (va :: vb :: va :: vb :: st)) : VM Γ G QB mm σ pc lv (va :: vb :: st) := fun a σ' hm hr H locs cells slots ls hW hF hc hl => lv_dup2_11 hG.exec hG.bytes hd hva hvb (k a σ' hm hr H locs cells slots ls hW hF hc hl)
theorem v_iload_n (hG : Gk Γ G own cc F L rt0) {i : Fin 4} {x : Int32} (kp : Nat) (hd : decode cc pc = .ok (.iload_n i, 1)) (hx : lv[kp]? = some ((i : Nat), .int x)) (k : VM Γ G QB mm σ (pc + 1) lv (.int x :: st)) : VM Γ G QB mm σ pc lv st := fun a σ' hm hr H locs cells slots ls hW hF hc hl => lv_iload_n hG.exec hG.bytes hd rfl (lv_at hl kp hx) (k a σ' hm hr H locs cells slots ls hW hF hc hl)
theorem v_aload_n (hG : Gk Γ G own cc F L rt0) {i : Fin 4} {x : Nat} (kp : Nat) (hd : decode cc pc = .ok (.aload_n i, 1)) (hx : lv[kp]? = some ((i : Nat), .ref x)) (k : VM Γ G QB mm σ (pc + 1) lv (.ref x :: st)) : VM Γ G QB mm σ pc lv st := fun a σ' hm hr H locs cells slots ls hW hF hc hl => lv_aload_n hG.exec hG.bytes hd rfl (lv_at hl kp hx) (k a σ' hm hr H locs cells slots ls hW hF hc hl)
theorem v_fload_n (hG : Gk Γ G own cc F L rt0) {i : Fin 4} {x : UInt32} (kp : Nat) (hd : decode cc pc = .ok (.fload_n i, 1)) (hx : lv[kp]? = some ((i : Nat), .float x)) (k : VM Γ G QB mm σ (pc + 1) lv (.float x :: st)) : VM Γ G QB mm σ pc lv st := fun a σ' hm hr H locs cells slots ls hW hF hc hl => lv_fload_n hG.exec hG.bytes hd rfl (lv_at hl kp hx) (k a σ' hm hr H locs cells slots ls hW hF hc hl)
theorem v_iload (hG : Gk Γ G own cc F L rt0) {i : Nat} {x : Int32} (kp : Nat) (hd : decode cc pc = .ok (.iload i, 2)) (hx : lv[kp]? = some (i, .int x)) (k : VM Γ G QB mm σ (pc + 2) lv (.int x :: st)) : VM Γ G QB mm σ pc lv st := fun a σ' hm hr H locs cells slots ls hW hF hc hl => lv_iload hG.exec hG.bytes hd (lv_at hl kp hx) (k a σ' hm hr H locs cells slots ls hW hF hc hl)
theorem v_aload (hG : Gk Γ G own cc F L rt0) {i : Nat} {x : Nat} (kp : Nat) (hd : decode cc pc = .ok (.aload i, 2)) (hx : lv[kp]? = some (i, .ref x)) (k : VM Γ G QB mm σ (pc + 2) lv (.ref x :: st)) : VM Γ G QB mm σ pc lv st := fun a σ' hm hr H locs cells slots ls hW hF hc hl => lv_aload hG.exec hG.bytes hd (lv_at hl kp hx) (k a σ' hm hr H locs cells slots ls hW hF hc hl)
theorem v_fload (hG : Gk Γ G own cc F L rt0) {i : Nat} {x : UInt32} (kp : Nat) (hd : decode cc pc = .ok (.fload i, 2)) (hx : lv[kp]? = some (i, .float x)) (k : VM Γ G QB mm σ (pc + 2) lv (.float x :: st)) : VM Γ G QB mm σ pc lv st := fun a σ' hm hr H locs cells slots ls hW hF hc hl => lv_fload hG.exec hG.bytes hd (lv_at hl kp hx) (k a σ' hm hr H locs cells slots ls hW hF hc hl)
theorem v_dload (hG : Gk Γ G own cc F L rt0) {i : Nat} {x : UInt64} (kp : Nat) (hd : decode cc pc = .ok (.dload i, 2)) (hx : lv[kp]? = some (i, .double x)) (k : VM Γ G QB mm σ (pc + 2) lv (.double x :: st)) : VM Γ G QB mm σ pc lv st := fun a σ' hm hr H locs cells slots ls hW hF hc hl => lv_dload hG.exec hG.bytes hd (lv_at hl kp hx) (k a σ' hm hr H locs cells slots ls hW hF hc hl)
theorem v_aloadr_n (hG : Gk Γ G own cc F L rt0) {i : Fin 4} {r : Option Nat} (kp : Nat) (hd : decode cc pc = .ok (.aload_n i, 1)) (hx : lv[kp]? = some ((i : Nat), va_rf r)) (k : VM Γ G QB mm σ (pc + 1) lv (va_rf r :: st)) : VM Γ G QB mm σ pc lv st := by
  intro a σ' hm hr H locs cells slots ls hW hF hc hl
  have K := k a σ' hm hr H locs cells slots ls hW hF hc hl
  cases r with
  | none => exact lv_aload_nN hG.exec hG.bytes hd rfl (lv_at hl kp hx) K
  | some x => exact lv_aload_n hG.exec hG.bytes hd rfl (lv_at hl kp hx) K
theorem v_aloadr (hG : Gk Γ G own cc F L rt0) {i : Nat} {r : Option Nat} (kp : Nat) (hd : decode cc pc = .ok (.aload i, 2)) (hx : lv[kp]? = some (i, va_rf r)) (k : VM Γ G QB mm σ (pc + 2) lv (va_rf r :: st)) : VM Γ G QB mm σ pc lv st := by
  intro a σ' hm hr H locs cells slots ls hW hF hc hl
  have K := k a σ' hm hr H locs cells slots ls hW hF hc hl
  cases r with
  | none => exact lv_aloadN hG.exec hG.bytes hd (lv_at hl kp hx) K
  | some x => exact lv_aload hG.exec hG.bytes hd (lv_at hl kp hx) K
theorem v_istore_n (hG : Gk Γ G own cc F L rt0) {j : Fin 4} {i : Nat} {x : Int32} {lv' : List (Nat × Value)} (hd : decode cc pc = .ok (.istore_n j, 1)) (hi : (j : Nat) = i) (hn : i < geN G) (hl' : (i, Value.int x) :: lv.filter (fun q => !(q.1 == i) && !(q.1 + 1 == i && q.2.category == 2)) = lv') (k : VM Γ G QB mm σ (pc + 1) lv' st) : VM Γ G QB mm σ pc lv (.int x :: st) := fun a σ' hm hr H locs cells slots ls hW hF hc hl => lv_istore_n hG.exec hG.bytes hd hi hl hn hl' fun ls2 hl2 => k a σ' hm hr H locs cells slots ls2 hW hF hc hl2
theorem v_istore (hG : Gk Γ G own cc F L rt0) {i : Nat} {x : Int32} {lv' : List (Nat × Value)} (hd : decode cc pc = .ok (.istore i, 2)) (hn : i < geN G) (hl' : (i, Value.int x) :: lv.filter (fun q => !(q.1 == i) && !(q.1 + 1 == i && q.2.category == 2)) = lv') (k : VM Γ G QB mm σ (pc + 2) lv' st) : VM Γ G QB mm σ pc lv (.int x :: st) := fun a σ' hm hr H locs cells slots ls hW hF hc hl => lv_istore hG.exec hG.bytes hd hl hn hl' fun ls2 hl2 => k a σ' hm hr H locs cells slots ls2 hW hF hc hl2
theorem v_astore_n (hG : Gk Γ G own cc F L rt0) {j : Fin 4} {i : Nat} {x : Nat} {lv' : List (Nat × Value)} (hd : decode cc pc = .ok (.astore_n j, 1)) (hi : (j : Nat) = i) (hn : i < geN G) (hl' : (i, Value.ref x) :: lv.filter (fun q => !(q.1 == i) && !(q.1 + 1 == i && q.2.category == 2)) = lv') (k : VM Γ G QB mm σ (pc + 1) lv' st) : VM Γ G QB mm σ pc lv (.ref x :: st) := fun a σ' hm hr H locs cells slots ls hW hF hc hl => lv_astore_n hG.exec hG.bytes hd hi hl hn hl' fun ls2 hl2 => k a σ' hm hr H locs cells slots ls2 hW hF hc hl2
theorem v_astore (hG : Gk Γ G own cc F L rt0) {i : Nat} {x : Nat} {lv' : List (Nat × Value)} (hd : decode cc pc = .ok (.astore i, 2)) (hn : i < geN G) (hl' : (i, Value.ref x) :: lv.filter (fun q => !(q.1 == i) && !(q.1 + 1 == i && q.2.category == 2)) = lv') (k : VM Γ G QB mm σ (pc + 2) lv' st) : VM Γ G QB mm σ pc lv (.ref x :: st) := fun a σ' hm hr H locs cells slots ls hW hF hc hl => lv_astore hG.exec hG.bytes hd hl hn hl' fun ls2 hl2 => k a σ' hm hr H locs cells slots ls2 hW hF hc hl2
theorem v_fstore_n (hG : Gk Γ G own cc F L rt0) {j : Fin 4} {i : Nat} {x : UInt32} {lv' : List (Nat × Value)} (hd : decode cc pc = .ok (.fstore_n j, 1)) (hi : (j : Nat) = i) (hn : i < geN G) (hl' : (i, Value.float x) :: lv.filter (fun q => !(q.1 == i) && !(q.1 + 1 == i && q.2.category == 2)) = lv') (k : VM Γ G QB mm σ (pc + 1) lv' st) : VM Γ G QB mm σ pc lv (.float x :: st) := fun a σ' hm hr H locs cells slots ls hW hF hc hl => lv_fstore_n hG.exec hG.bytes hd hi hl hn hl' fun ls2 hl2 => k a σ' hm hr H locs cells slots ls2 hW hF hc hl2
theorem v_fstore (hG : Gk Γ G own cc F L rt0) {i : Nat} {x : UInt32} {lv' : List (Nat × Value)} (hd : decode cc pc = .ok (.fstore i, 2)) (hn : i < geN G) (hl' : (i, Value.float x) :: lv.filter (fun q => !(q.1 == i) && !(q.1 + 1 == i && q.2.category == 2)) = lv') (k : VM Γ G QB mm σ (pc + 2) lv' st) : VM Γ G QB mm σ pc lv (.float x :: st) := fun a σ' hm hr H locs cells slots ls hW hF hc hl => lv_fstore hG.exec hG.bytes hd hl hn hl' fun ls2 hl2 => k a σ' hm hr H locs cells slots ls2 hW hF hc hl2
theorem v_dstore (hG : Gk Γ G own cc F L rt0) {i : Nat} {x : UInt64} {lv' : List (Nat × Value)} (hd : decode cc pc = .ok (.dstore i, 2)) (hn : i + 1 < geN G) (hl' : (i, Value.double x) :: lv.filter (fun q => !(q.1 == i) && (!(q.1 == i + 1) && !(q.1 + 1 == i && q.2.category == 2))) = lv') (k : VM Γ G QB mm σ (pc + 2) lv' st) : VM Γ G QB mm σ pc lv (.double x :: st) := fun a σ' hm hr H locs cells slots ls hW hF hc hl => lv_dstore hG.exec hG.bytes hd hl hn hl' fun ls2 hl2 => k a σ' hm hr H locs cells slots ls2 hW hF hc hl2
theorem v_astorer_n (hG : Gk Γ G own cc F L rt0) {j : Fin 4} {i : Nat} {r : Option Nat} {lv' : List (Nat × Value)} (hd : decode cc pc = .ok (.astore_n j, 1)) (hi : (j : Nat) = i) (hn : i < geN G) (hl' : (i, va_rf r) :: lv.filter (fun q => !(q.1 == i) && !(q.1 + 1 == i && q.2.category == 2)) = lv') (k : VM Γ G QB mm σ (pc + 1) lv' st) : VM Γ G QB mm σ pc lv (va_rf r :: st) := by
  intro a σ' hm hr H locs cells slots ls hW hF hc hl
  cases r with
  | none => exact lv_astore_nN hG.exec hG.bytes hd hi hl hn hl' fun ls2 hl2 => k a σ' hm hr H locs cells slots ls2 hW hF hc hl2
  | some x => exact lv_astore_n hG.exec hG.bytes hd hi hl hn hl' fun ls2 hl2 => k a σ' hm hr H locs cells slots ls2 hW hF hc hl2
theorem v_astorer (hG : Gk Γ G own cc F L rt0) {i : Nat} {r : Option Nat} {lv' : List (Nat × Value)} (hd : decode cc pc = .ok (.astore i, 2)) (hn : i < geN G) (hl' : (i, va_rf r) :: lv.filter (fun q => !(q.1 == i) && !(q.1 + 1 == i && q.2.category == 2)) = lv') (k : VM Γ G QB mm σ (pc + 2) lv' st) : VM Γ G QB mm σ pc lv (va_rf r :: st) := by
  intro a σ' hm hr H locs cells slots ls hW hF hc hl
  cases r with
  | none => exact lv_astoreN hG.exec hG.bytes hd hl hn hl' fun ls2 hl2 => k a σ' hm hr H locs cells slots ls2 hW hF hc hl2
  | some x => exact lv_astore hG.exec hG.bytes hd hl hn hl' fun ls2 hl2 => k a σ' hm hr H locs cells slots ls2 hW hF hc hl2
theorem v_iinc (hG : Gk Γ G own cc F L rt0) {i : Nat} {n : Int} {x v : Int32} {lv' : List (Nat × Value)} (kp : Nat) (hd : decode cc pc = .ok (.iinc i n, 3)) (hx : lv[kp]? = some (i, .int x)) (hv : x + Int32.ofInt n = v) (hn : i < geN G) (hl' : (i, Value.int v) :: lv.filter (fun q => !(q.1 == i) && !(q.1 + 1 == i && q.2.category == 2)) = lv') (k : VM Γ G QB mm σ (pc + 3) lv' st) : VM Γ G QB mm σ pc lv st := fun a σ' hm hr H locs cells slots ls hW hF hc hl => lv_iinc hG.exec hG.bytes hd hl hx hv hn hl' fun ls2 hl2 => k a σ' hm hr H locs cells slots ls2 hW hF hc hl2
theorem v_goto (hG : Gk Γ G own cc F L rt0) {off : Int} (tgt : Nat) (hd : decode cc pc = .ok (.goto off, 3)) (ht : (pc : Int) + off = (tgt : Int)) (k : VM Γ G QB mm σ tgt lv st) : VM Γ G QB mm σ pc lv st := fun a σ' hm hr H locs cells slots ls hW hF hc hl => lv_goto hG.exec hG.bytes hd ht (k a σ' hm hr H locs cells slots ls hW hF hc hl)
theorem v_if_eq (hG : Gk Γ G own cc F L rt0) {x : Int32} {m1 m2 : Mr β} {off : Int} (tgt : Nat) (hd : decode cc pc = .ok (.ifCond .eq off, 3)) (ht : (pc : Int) + off = (tgt : Int)) (kt : (x = 0) → VM Γ G QB m1 σ tgt lv st) (kf : ¬ (x = 0) → VM Γ G QB m2 σ (pc + 3) lv st) : VM Γ G QB (if x = 0 then m1 else m2) σ pc lv (.int x :: st) := by
  intro a σ' hm hr H locs cells slots ls hW hF hc hl
  rw [run_ite] at hm
  refine lv_if_eq hG.exec hG.bytes hd ht (fun h => ?_) (fun h => ?_)
  · exact kt (by first | exact h | exact fun z => h z | omega) a σ' (by first | rwa [if_pos h] at hm | (rw [if_pos (by first | exact h | exact fun z => h z)] at hm; exact hm)) hr H locs cells slots ls hW hF hc hl
  · exact kf (by first | exact h | exact fun z => z h) a σ' (by first | rwa [if_neg h] at hm | (rw [if_neg (by first | exact h | exact fun z => z h)] at hm; exact hm)) hr H locs cells slots ls hW hF hc hl
theorem v_if_ne (hG : Gk Γ G own cc F L rt0) {x : Int32} {m1 m2 : Mr β} {off : Int} (tgt : Nat) (hd : decode cc pc = .ok (.ifCond .ne off, 3)) (ht : (pc : Int) + off = (tgt : Int)) (kt : (¬ x = 0) → VM Γ G QB m1 σ tgt lv st) (kf : ¬ (¬ x = 0) → VM Γ G QB m2 σ (pc + 3) lv st) : VM Γ G QB (if ¬ x = 0 then m1 else m2) σ pc lv (.int x :: st) := by
  intro a σ' hm hr H locs cells slots ls hW hF hc hl
  rw [run_ite] at hm
  refine lv_if_ne hG.exec hG.bytes hd ht (fun h => ?_) (fun h => ?_)
  · exact kt (by first | exact h | exact fun z => h z | omega) a σ' (by first | rwa [if_pos h] at hm | (rw [if_pos (by first | exact h | exact fun z => h z)] at hm; exact hm)) hr H locs cells slots ls hW hF hc hl
  · exact kf (by first | exact h | exact fun z => z h) a σ' (by first | rwa [if_neg h] at hm | (rw [if_neg (by first | exact h | exact fun z => z h)] at hm; exact hm)) hr H locs cells slots ls hW hF hc hl
theorem v_if_lt (hG : Gk Γ G own cc F L rt0) {x : Int32} {m1 m2 : Mr β} {off : Int} (tgt : Nat) (hd : decode cc pc = .ok (.ifCond .lt off, 3)) (ht : (pc : Int) + off = (tgt : Int)) (kt : (x < 0) → VM Γ G QB m1 σ tgt lv st) (kf : ¬ (x < 0) → VM Γ G QB m2 σ (pc + 3) lv st) : VM Γ G QB (if x < 0 then m1 else m2) σ pc lv (.int x :: st) := by
  intro a σ' hm hr H locs cells slots ls hW hF hc hl
  rw [run_ite] at hm
  refine lv_if_lt hG.exec hG.bytes hd ht (fun h => ?_) (fun h => ?_)
  · exact kt (by first | exact h | exact fun z => h z | omega) a σ' (by first | rwa [if_pos h] at hm | (rw [if_pos (by first | exact h | exact fun z => h z)] at hm; exact hm)) hr H locs cells slots ls hW hF hc hl
  · exact kf (by first | exact h | exact fun z => z h) a σ' (by first | rwa [if_neg h] at hm | (rw [if_neg (by first | exact h | exact fun z => z h)] at hm; exact hm)) hr H locs cells slots ls hW hF hc hl
theorem v_if_ge (hG : Gk Γ G own cc F L rt0) {x : Int32} {m1 m2 : Mr β} {off : Int} (tgt : Nat) (hd : decode cc pc = .ok (.ifCond .ge off, 3)) (ht : (pc : Int) + off = (tgt : Int)) (kt : (0 ≤ x) → VM Γ G QB m1 σ tgt lv st) (kf : ¬ (0 ≤ x) → VM Γ G QB m2 σ (pc + 3) lv st) : VM Γ G QB (if 0 ≤ x then m1 else m2) σ pc lv (.int x :: st) := by
  intro a σ' hm hr H locs cells slots ls hW hF hc hl
  rw [run_ite] at hm
  refine lv_if_ge hG.exec hG.bytes hd ht (fun h => ?_) (fun h => ?_)
  · exact kt (by first | exact h | exact fun z => h z | omega) a σ' (by first | rwa [if_pos h] at hm | (rw [if_pos (by first | exact h | exact fun z => h z)] at hm; exact hm)) hr H locs cells slots ls hW hF hc hl
  · exact kf (by first | exact h | exact fun z => z h) a σ' (by first | rwa [if_neg h] at hm | (rw [if_neg (by first | exact h | exact fun z => z h)] at hm; exact hm)) hr H locs cells slots ls hW hF hc hl
theorem v_if_gt (hG : Gk Γ G own cc F L rt0) {x : Int32} {m1 m2 : Mr β} {off : Int} (tgt : Nat) (hd : decode cc pc = .ok (.ifCond .gt off, 3)) (ht : (pc : Int) + off = (tgt : Int)) (kt : (0 < x) → VM Γ G QB m1 σ tgt lv st) (kf : ¬ (0 < x) → VM Γ G QB m2 σ (pc + 3) lv st) : VM Γ G QB (if 0 < x then m1 else m2) σ pc lv (.int x :: st) := by
  intro a σ' hm hr H locs cells slots ls hW hF hc hl
  rw [run_ite] at hm
  refine lv_if_gt hG.exec hG.bytes hd ht (fun h => ?_) (fun h => ?_)
  · exact kt (by first | exact h | exact fun z => h z | omega) a σ' (by first | rwa [if_pos h] at hm | (rw [if_pos (by first | exact h | exact fun z => h z)] at hm; exact hm)) hr H locs cells slots ls hW hF hc hl
  · exact kf (by first | exact h | exact fun z => z h) a σ' (by first | rwa [if_neg h] at hm | (rw [if_neg (by first | exact h | exact fun z => z h)] at hm; exact hm)) hr H locs cells slots ls hW hF hc hl
theorem v_if_le (hG : Gk Γ G own cc F L rt0) {x : Int32} {m1 m2 : Mr β} {off : Int} (tgt : Nat) (hd : decode cc pc = .ok (.ifCond .le off, 3)) (ht : (pc : Int) + off = (tgt : Int)) (kt : (x ≤ 0) → VM Γ G QB m1 σ tgt lv st) (kf : ¬ (x ≤ 0) → VM Γ G QB m2 σ (pc + 3) lv st) : VM Γ G QB (if x ≤ 0 then m1 else m2) σ pc lv (.int x :: st) := by
  intro a σ' hm hr H locs cells slots ls hW hF hc hl
  rw [run_ite] at hm
  refine lv_if_le hG.exec hG.bytes hd ht (fun h => ?_) (fun h => ?_)
  · exact kt (by first | exact h | exact fun z => h z | omega) a σ' (by first | rwa [if_pos h] at hm | (rw [if_pos (by first | exact h | exact fun z => h z)] at hm; exact hm)) hr H locs cells slots ls hW hF hc hl
  · exact kf (by first | exact h | exact fun z => z h) a σ' (by first | rwa [if_neg h] at hm | (rw [if_neg (by first | exact h | exact fun z => z h)] at hm; exact hm)) hr H locs cells slots ls hW hF hc hl
theorem v_icmp_eq (hG : Gk Γ G own cc F L rt0) {x y : Int32} {m1 m2 : Mr β} {off : Int} (tgt : Nat) (hd : decode cc pc = .ok (.if_icmp .eq off, 3)) (ht : (pc : Int) + off = (tgt : Int)) (kt : (x = y) → VM Γ G QB m1 σ tgt lv st) (kf : ¬ (x = y) → VM Γ G QB m2 σ (pc + 3) lv st) : VM Γ G QB (if x = y then m1 else m2) σ pc lv (.int y :: .int x :: st) := by
  intro a σ' hm hr H locs cells slots ls hW hF hc hl
  rw [run_ite] at hm
  refine lv_icmp_eq hG.exec hG.bytes hd ht (fun h => ?_) (fun h => ?_)
  · exact kt (by first | exact h | exact fun z => h z | omega) a σ' (by first | rwa [if_pos h] at hm | (rw [if_pos (by first | exact h | exact fun z => h z)] at hm; exact hm)) hr H locs cells slots ls hW hF hc hl
  · exact kf (by first | exact h | exact fun z => z h) a σ' (by first | rwa [if_neg h] at hm | (rw [if_neg (by first | exact h | exact fun z => z h)] at hm; exact hm)) hr H locs cells slots ls hW hF hc hl
theorem v_icmp_ne (hG : Gk Γ G own cc F L rt0) {x y : Int32} {m1 m2 : Mr β} {off : Int} (tgt : Nat) (hd : decode cc pc = .ok (.if_icmp .ne off, 3)) (ht : (pc : Int) + off = (tgt : Int)) (kt : (¬ x = y) → VM Γ G QB m1 σ tgt lv st) (kf : ¬ (¬ x = y) → VM Γ G QB m2 σ (pc + 3) lv st) : VM Γ G QB (if ¬ x = y then m1 else m2) σ pc lv (.int y :: .int x :: st) := by
  intro a σ' hm hr H locs cells slots ls hW hF hc hl
  rw [run_ite] at hm
  refine lv_icmp_ne hG.exec hG.bytes hd ht (fun h => ?_) (fun h => ?_)
  · exact kt (by first | exact h | exact fun z => h z | omega) a σ' (by first | rwa [if_pos h] at hm | (rw [if_pos (by first | exact h | exact fun z => h z)] at hm; exact hm)) hr H locs cells slots ls hW hF hc hl
  · exact kf (by first | exact h | exact fun z => z h) a σ' (by first | rwa [if_neg h] at hm | (rw [if_neg (by first | exact h | exact fun z => z h)] at hm; exact hm)) hr H locs cells slots ls hW hF hc hl
theorem v_icmp_lt (hG : Gk Γ G own cc F L rt0) {x y : Int32} {m1 m2 : Mr β} {off : Int} (tgt : Nat) (hd : decode cc pc = .ok (.if_icmp .lt off, 3)) (ht : (pc : Int) + off = (tgt : Int)) (kt : (x < y) → VM Γ G QB m1 σ tgt lv st) (kf : ¬ (x < y) → VM Γ G QB m2 σ (pc + 3) lv st) : VM Γ G QB (if x < y then m1 else m2) σ pc lv (.int y :: .int x :: st) := by
  intro a σ' hm hr H locs cells slots ls hW hF hc hl
  rw [run_ite] at hm
  refine lv_icmp_lt hG.exec hG.bytes hd ht (fun h => ?_) (fun h => ?_)
  · exact kt (by first | exact h | exact fun z => h z | omega) a σ' (by first | rwa [if_pos h] at hm | (rw [if_pos (by first | exact h | exact fun z => h z)] at hm; exact hm)) hr H locs cells slots ls hW hF hc hl
  · exact kf (by first | exact h | exact fun z => z h) a σ' (by first | rwa [if_neg h] at hm | (rw [if_neg (by first | exact h | exact fun z => z h)] at hm; exact hm)) hr H locs cells slots ls hW hF hc hl
theorem v_icmp_ge (hG : Gk Γ G own cc F L rt0) {x y : Int32} {m1 m2 : Mr β} {off : Int} (tgt : Nat) (hd : decode cc pc = .ok (.if_icmp .ge off, 3)) (ht : (pc : Int) + off = (tgt : Int)) (kt : (y ≤ x) → VM Γ G QB m1 σ tgt lv st) (kf : ¬ (y ≤ x) → VM Γ G QB m2 σ (pc + 3) lv st) : VM Γ G QB (if y ≤ x then m1 else m2) σ pc lv (.int y :: .int x :: st) := by
  intro a σ' hm hr H locs cells slots ls hW hF hc hl
  rw [run_ite] at hm
  refine lv_icmp_ge hG.exec hG.bytes hd ht (fun h => ?_) (fun h => ?_)
  · exact kt (by first | exact h | exact fun z => h z | omega) a σ' (by first | rwa [if_pos h] at hm | (rw [if_pos (by first | exact h | exact fun z => h z)] at hm; exact hm)) hr H locs cells slots ls hW hF hc hl
  · exact kf (by first | exact h | exact fun z => z h) a σ' (by first | rwa [if_neg h] at hm | (rw [if_neg (by first | exact h | exact fun z => z h)] at hm; exact hm)) hr H locs cells slots ls hW hF hc hl
theorem v_icmp_gt (hG : Gk Γ G own cc F L rt0) {x y : Int32} {m1 m2 : Mr β} {off : Int} (tgt : Nat) (hd : decode cc pc = .ok (.if_icmp .gt off, 3)) (ht : (pc : Int) + off = (tgt : Int)) (kt : (y < x) → VM Γ G QB m1 σ tgt lv st) (kf : ¬ (y < x) → VM Γ G QB m2 σ (pc + 3) lv st) : VM Γ G QB (if y < x then m1 else m2) σ pc lv (.int y :: .int x :: st) := by
  intro a σ' hm hr H locs cells slots ls hW hF hc hl
  rw [run_ite] at hm
  refine lv_icmp_gt hG.exec hG.bytes hd ht (fun h => ?_) (fun h => ?_)
  · exact kt (by first | exact h | exact fun z => h z | omega) a σ' (by first | rwa [if_pos h] at hm | (rw [if_pos (by first | exact h | exact fun z => h z)] at hm; exact hm)) hr H locs cells slots ls hW hF hc hl
  · exact kf (by first | exact h | exact fun z => z h) a σ' (by first | rwa [if_neg h] at hm | (rw [if_neg (by first | exact h | exact fun z => z h)] at hm; exact hm)) hr H locs cells slots ls hW hF hc hl
theorem v_icmp_le (hG : Gk Γ G own cc F L rt0) {x y : Int32} {m1 m2 : Mr β} {off : Int} (tgt : Nat) (hd : decode cc pc = .ok (.if_icmp .le off, 3)) (ht : (pc : Int) + off = (tgt : Int)) (kt : (x ≤ y) → VM Γ G QB m1 σ tgt lv st) (kf : ¬ (x ≤ y) → VM Γ G QB m2 σ (pc + 3) lv st) : VM Γ G QB (if x ≤ y then m1 else m2) σ pc lv (.int y :: .int x :: st) := by
  intro a σ' hm hr H locs cells slots ls hW hF hc hl
  rw [run_ite] at hm
  refine lv_icmp_le hG.exec hG.bytes hd ht (fun h => ?_) (fun h => ?_)
  · exact kt (by first | exact h | exact fun z => h z | omega) a σ' (by first | rwa [if_pos h] at hm | (rw [if_pos (by first | exact h | exact fun z => h z)] at hm; exact hm)) hr H locs cells slots ls hW hF hc hl
  · exact kf (by first | exact h | exact fun z => z h) a σ' (by first | rwa [if_neg h] at hm | (rw [if_neg (by first | exact h | exact fun z => z h)] at hm; exact hm)) hr H locs cells slots ls hW hF hc hl
theorem v_acmp_eq (hG : Gk Γ G own cc F L rt0) {x y : Option Nat} {m1 m2 : Mr β} {off : Int} (tgt : Nat) (hd : decode cc pc = .ok (.if_acmp .eq off, 3)) (ht : (pc : Int) + off = (tgt : Int)) (kt : (x = y) → VM Γ G QB m1 σ tgt lv st) (kf : ¬ (x = y) → VM Γ G QB m2 σ (pc + 3) lv st) : VM Γ G QB (if x = y then m1 else m2) σ pc lv (va_rf y :: va_rf x :: st) := by
  intro a σ' hm hr H locs cells slots ls hW hF hc hl
  rw [run_ite] at hm
  refine lv_acmp_eq hG.exec hG.bytes hd ht (fun h => ?_) (fun h => ?_)
  · exact kt (by first | exact h | exact fun z => h z | omega) a σ' (by first | rwa [if_pos h] at hm | (rw [if_pos (by first | exact h | exact fun z => h z)] at hm; exact hm)) hr H locs cells slots ls hW hF hc hl
  · exact kf (by first | exact h | exact fun z => z h) a σ' (by first | rwa [if_neg h] at hm | (rw [if_neg (by first | exact h | exact fun z => z h)] at hm; exact hm)) hr H locs cells slots ls hW hF hc hl
theorem v_acmp_ne (hG : Gk Γ G own cc F L rt0) {x y : Option Nat} {m1 m2 : Mr β} {off : Int} (tgt : Nat) (hd : decode cc pc = .ok (.if_acmp .ne off, 3)) (ht : (pc : Int) + off = (tgt : Int)) (kt : (¬ x = y) → VM Γ G QB m1 σ tgt lv st) (kf : ¬ (¬ x = y) → VM Γ G QB m2 σ (pc + 3) lv st) : VM Γ G QB (if ¬ x = y then m1 else m2) σ pc lv (va_rf y :: va_rf x :: st) := by
  intro a σ' hm hr H locs cells slots ls hW hF hc hl
  rw [run_ite] at hm
  refine lv_acmp_ne hG.exec hG.bytes hd ht (fun h => ?_) (fun h => ?_)
  · exact kt (by first | exact h | exact fun z => h z | omega) a σ' (by first | rwa [if_pos h] at hm | (rw [if_pos (by first | exact h | exact fun z => h z)] at hm; exact hm)) hr H locs cells slots ls hW hF hc hl
  · exact kf (by first | exact h | exact fun z => z h) a σ' (by first | rwa [if_neg h] at hm | (rw [if_neg (by first | exact h | exact fun z => z h)] at hm; exact hm)) hr H locs cells slots ls hW hF hc hl
theorem v_ifnull (hG : Gk Γ G own cc F L rt0) {r : Option Nat} {m1 m2 : Mr β} {off : Int} (tgt : Nat) (hd : decode cc pc = .ok (.ifnull off, 3)) (ht : (pc : Int) + off = (tgt : Int)) (kt : r = none → VM Γ G QB m1 σ tgt lv st) (kf : ¬ r = none → VM Γ G QB m2 σ (pc + 3) lv st) : VM Γ G QB (if r = none then m1 else m2) σ pc lv (va_rf r :: st) := by
  intro a σ' hm hr H locs cells slots ls hW hF hc hl
  rw [run_ite] at hm
  cases r with
  | none => exact lv_ifnullN hG.exec hG.bytes hd ht (kt rfl a σ' (by rwa [if_pos rfl] at hm) hr H locs cells slots ls hW hF hc hl)
  | some q => exact lv_ifnull hG.exec hG.bytes hd (kf (fun h => by cases h) a σ' (by rwa [if_neg (fun h => by cases h)] at hm) hr H locs cells slots ls hW hF hc hl)
theorem v_ifnonnull (hG : Gk Γ G own cc F L rt0) {r : Option Nat} {m1 m2 : Mr β} {off : Int} (tgt : Nat) (hd : decode cc pc = .ok (.ifnonnull off, 3)) (ht : (pc : Int) + off = (tgt : Int)) (kt : ¬ r = none → VM Γ G QB m1 σ tgt lv st) (kf : r = none → VM Γ G QB m2 σ (pc + 3) lv st) : VM Γ G QB (if r = none then m2 else m1) σ pc lv (va_rf r :: st) := by
  intro a σ' hm hr H locs cells slots ls hW hF hc hl
  rw [run_ite] at hm
  cases r with
  | none => exact lv_ifnonnullN hG.exec hG.bytes hd (kf rfl a σ' (by rwa [if_pos rfl] at hm) hr H locs cells slots ls hW hF hc hl)
  | some q => exact lv_ifnonnull hG.exec hG.bytes hd ht (kt (fun h => by cases h) a σ' (by rwa [if_neg (fun h => by cases h)] at hm) hr H locs cells slots ls hW hF hc hl)
theorem Gk.nw (hG : Gk Γ G own cc F L rt0) {w : Cond} (hw : w ∈ lw_tbl) (ht : w.onTables = true) (hm : ∀ {s U : State}, s.WarmedH U.vm → va_Nw w s → va_Nw w U) : va_Nw w (geS G) := by
  obtain ⟨a0, h⟩ := hG.ok.1
  exact hm hG.cx.1 (va_Nw.of ht (h w hw))
theorem Gk.nwF (hG : Gk Γ G own cc F L rt0) {a : String} {i : Nat} {b n d h : String} (hw : Cond.fieldLinkNest a i b n d h ∈ lw_tbl) : (Cond.fieldLinkNest a i b n d h).before G.2.1.2.2.1 (geS G) = true := va_Nw.use rfl (hG.nw hw rfl fun hW hZ => va_Nw.warmF hW hZ)
/-! the world's cells -/
theorem wC.lt {q : Nat} {H : Heap} (h : wC Γ σ H q) : q < H.size := by
  have key : ∃ c, H[q]? = some c := by
    rcases h with ⟨-, -, -, r, -, cell, b, -⟩ | ⟨-, -, -, b⟩ | ⟨-, -, -, cell, b, -⟩ | ⟨-, -, r, cell, -, b, -⟩ | ⟨-, -, cell, b, -⟩ | ⟨-, -, cell, b, -⟩ <;> exact ⟨_, b⟩
  obtain ⟨c, hc⟩ := key
  exact (Array.getElem?_eq_some_iff.mp hc).1
theorem oV.eq {σ σ1 : Hp} {q : Nat} (h1 : hI σ1 q = hI σ q) (h2 : hR σ1 q = hR σ q) (k : Nat) : oV σ1 q k = oV σ q k := by funext j; unfold oV; rw [h1, h2]
theorem aV.eq {σ σ1 : Hp} {q : Nat} (h1 : hI σ1 q = hI σ q) (h2 : hR σ1 q = hR σ q) (h3 : hL σ1 q = hL σ q) (k : Nat) : aV σ1 q k = aV σ q k := by funext j; unfold aV; rw [h1, h2, h3]
theorem wC.kept {σ σ1 : Hp} {H H1 : Heap} {q : Nat} (hk : hK σ1 q = hK σ q) (hn : hN σ1 q = hN σ q) (h1 : hI σ1 q = hI σ q) (h2 : hR σ1 q = hR σ q) (h3 : hL σ1 q = hL σ q) (hh : H1[q]? = H[q]?) (h : wC Γ σ H q) : wC Γ σ1 H1 q := by
  unfold wC at h ⊢
  rw [hk]
  rcases h with ⟨a, b, c, r, d, e⟩ | ⟨a, b, c, d⟩ | ⟨a, b, c, cell, d, e⟩ | ⟨a, b, r, cell, c, d, e⟩ | ⟨a, b, cell, d, e⟩ | ⟨a, b, cell, d, e⟩
  · exact Or.inl ⟨a, b, c, r, d, by rw [oV.eq h1 h2]; exact e.kept hh⟩
  · exact Or.inr (Or.inl ⟨a, b, c, by unfold wcA at d ⊢; rw [aV.eq h1 h2 h3, hn, hh]; exact d⟩)
  · exact Or.inr (Or.inr (Or.inl ⟨a, b, c, cell, by rw [hh]; exact d, by rw [h1, h2]; exact e⟩))
  · exact Or.inr (Or.inr (Or.inr (Or.inl ⟨a, b, r, cell, c, by rw [hh]; exact d, by rw [oV.eq h1 h2]; exact e⟩)))
  · exact Or.inr (Or.inr (Or.inr (Or.inr (Or.inl ⟨a, b, cell, by rw [hh]; exact d, by rw [aV.eq h1 h2 h3, hn]; exact e⟩))))
  · exact Or.inr (Or.inr (Or.inr (Or.inr (Or.inr ⟨a, b, cell, by rw [hh]; exact d, by rw [h1, h2]; exact e⟩))))
/-- one old cell written -/
theorem Wd.upd {σ σ1 : Hp} {H H1 : Heap} {q : Nat} (hW : Wd Γ σ H) (e1 : σ1.1 = σ.1) (e2 : ∀ p, p ≠ q → hI σ1 p = hI σ p ∧ hR σ1 p = hR σ p ∧ hL σ1 p = hL σ p) (z : H1.size = H.size) (oq : ∀ p, p ≠ q → H1[p]? = H[p]?) (new : wC Γ σ1 H1 q) : Wd Γ σ1 H1 := by
  obtain ⟨w1, w2, w3, w4⟩ := hW
  have k1 : hK σ1 = hK σ := by unfold hK; rw [e1]
  have k2 : hN σ1 = hN σ := by unfold hN; rw [e1]
  have k3 : hSz σ1 = hSz σ := by unfold hSz; rw [e1]
  have k4 : hS σ1 = hS σ := by unfold hS; rw [e1]
  refine ⟨by rw [k3, z]; exact w1, by rw [k3]; exact w2, by rw [k4]; exact w3, fun p hp => ?_⟩
  by_cases h : p = q
  · rw [h]; exact new
  · obtain ⟨a, b, c⟩ := e2 p h
    exact wC.kept (by rw [k1]) (by rw [k2]) a b c (oq p h) (w4 p (by rw [← k1]; exact hp))
/-- a cell more -/
theorem Wd.mk {σ : Hp} {H H1 : Heap} {k n sl : Nat} {fI : Nat → Int32} {fR : Nat → Option Nat} (hW : Wd Γ σ H) (z : H1.size = H.size + 1) (oq : ∀ p, p < H.size → H1[p]? = H[p]?) (new : k ≠ 0 → wC Γ (hNew σ k n sl fI fR) H1 H.size) : Wd Γ (hNew σ k n sl fI fR) H1 := by
  obtain ⟨w1, w2, w3, w4⟩ := hW
  refine ⟨by rw [hSz_new, z, w1], by rw [hSz_new]; omega, w3, fun p hp => ?_⟩
  by_cases h : p = hSz σ
  · rw [h, hK_new, up1_s] at hp
    rw [h, w1]; exact new hp
  · rw [hK_new, up1_n _ _ h] at hp
    refine wC.kept (by rw [hK_new, up1_n _ _ h]) (by rw [hN_new, up1_n _ _ h]) (by rw [hI_new, up1_n _ _ h]) (by rw [hR_new, up1_n _ _ h]) (by rw [hL_new, up1_n _ _ h]) (oq p ?_) (w4 p hp)
    exact (w4 p hp).lt
theorem Wd.obj {H : Heap} {q k : Nat} (hW : Wd Γ σ H) (hk : hK σ q % 100 = k) (h0 : 0 < k) (h1 : k < 40) : ∃ (r : vw_C) (cell : Cell), vwAll[k - 1]? = some r ∧ H[q]? = some cell ∧ cell.cls = (gaD Γ).1 (k - 1) ∧ cell.vm ≠ .unknown ∧ cell.vm.isStatics = false ∧ ∀ j, j < r.2.2 → cell.slots[(gaD Γ).2 (k - 1) j]? = some (oV σ q k j) := by
  rcases hW.2.2.2 q (by omega) with ⟨a, b, c, r, d, cell, e1, e2, e3, e4⟩ | ⟨a, b, -⟩ | ⟨a, b, -⟩ | ⟨a, b, r, cell, e⟩ | ⟨a, b, -⟩ | ⟨a, b, -⟩
  · rw [show hK σ q = k by omega] at d e2 e4
    exact ⟨r, cell, d, e1, e2, (by rw [e3]; exact fun h => (by cases h)), (by rw [e3]; rfl), e4⟩
  · omega
  · omega
  · rw [show hK σ q - 100 = k by omega] at e
    exact ⟨r, cell, e⟩
  · omega
  · omega
theorem Wd.objW {H : Heap} {q k : Nat} (hW : Wd Γ σ H) (hk : hK σ q = k) (h0 : 0 < k) (h1 : k < 40) : gaB Γ ≤ q ∧ wcO Γ σ H q k := by
  rcases hW.2.2.2 q (by omega) with ⟨a, b, c, d⟩ | ⟨a, b, -⟩ | ⟨a, b, -⟩ | ⟨a, b, -⟩ | ⟨a, b, -⟩ | ⟨a, b, -⟩
  · rw [hk] at d; exact ⟨c, d⟩
  all_goals omega
theorem tysAt (k : Nat) (h0 : 41 ≤ k) (h1 : k < 52) : (tysAll Γ)[k - 41]? = some (gaA Γ k, tyA k) := by
  rcases (show k = 41 ∨ k = 42 ∨ k = 43 ∨ k = 44 ∨ k = 45 ∨ k = 46 ∨ k = 47 ∨ k = 48 ∨ k = 49 ∨ k = 50 ∨ k = 51 by omega) with rfl | rfl | rfl | rfl | rfl | rfl | rfl | rfl | rfl | rfl | rfl <;> rfl
theorem Wd.arr {H : Heap} {q k : Nat} (hG : Gk Γ G own cc F L rt0) (hW : Wd Γ σ H) (hk : hK σ q % 100 = k) (h0 : 41 ≤ k) (h1 : k < 52) : ∃ cell : Cell, H[q]? = some cell ∧ (geS G).isArrayOf cell (tyA k) ∧ cell.vm ≠ .unknown ∧ cell.slots.size = hN σ q ∧ ∀ j, j < hN σ q → cell.slots[j]? = some (aV σ q k j) := by
  rcases hW.2.2.2 q (by omega) with ⟨a, b, -⟩ | ⟨a, b, c, d⟩ | ⟨a, b, -⟩ | ⟨a, b, -⟩ | ⟨a, b, cell, e1, e2, e3⟩ | ⟨a, b, -⟩
  · omega
  · rw [show hK σ q = k by omega] at d
    exact ⟨_, d, (hG.vk.2 _ _ (tysAt k h0 h1)).1 _ _, fun h => by (cases h), arrV_size _ _ _, fun j hj => arrV_read _ _ hj⟩
  · omega
  · omega
  · rw [show hK σ q - 100 = k by omega] at e2 e3
    exact ⟨cell, e1, State.isArrayOf_alike hG.cx.1.alike e2, e3⟩
  · omega
theorem Wd.arrW {H : Heap} {q k : Nat} (hW : Wd Γ σ H) (hk : hK σ q = k) (h0 : 41 ≤ k) (h1 : k < 60) : gaB Γ ≤ q ∧ H[q]? = some (arrV (gaA Γ k) (hN σ q) (aV σ q k)) := by
  rcases hW.2.2.2 q (by omega) with ⟨a, b, -⟩ | ⟨a, b, c, d⟩ | ⟨a, b, -⟩ | ⟨a, b, -⟩ | ⟨a, b, -⟩ | ⟨a, b, -⟩
  · omega
  · rw [hk] at d; exact ⟨c, d⟩
  all_goals omega
theorem Fr.put {H H1 : Heap} {locs : List Loc} {a k : Nat} (h : Fr Γ G H locs) (z : H1.size = H.size) (oq : ∀ q : Nat, q ≠ a → H1[q]? = H[q]?) (ha : gaB Γ ≤ a) : Fr Γ G H1 (locs ++ [⟨a, k⟩]) := by
  refine ⟨fun q hq => (oq q (by omega)).trans (h.1 q hq), by rw [z]; exact h.2.1, fun l hl => ?_⟩
  rcases List.mem_append.mp hl with h1 | h1
  · exact h.2.2 l h1
  · rw [List.mem_singleton.mp h1]; exact ha
theorem Fr.mk {H H1 : Heap} {locs : List Loc} (hG : Gk Γ G own cc F L rt0) (h : Fr Γ G H locs) (z : H.size ≤ H1.size) (oq : ∀ q : Nat, q < H.size → H1[q]? = H[q]?) : Fr Γ G H1 locs :=
  ⟨fun q hq => (oq q (by have := hG.base; have := h.2.1; omega)).trans (h.1 q hq), Nat.le_trans h.2.1 z, h.2.2⟩
/-! returns -/
theorem v_iret (hG : Gk Γ G own cc F L rt0) {x : Int32} (hr0 : rt0 = some .int) (hd : decode cc pc = .ok (.ireturn, 1)) : VM Γ G (QN Γ G evI) (rt x) σ pc lv [.int x] := by
  intro y σ' hm hr H locs cells slots ls hW hF hc hl
  cases hm
  have h1 : hSz σ - geZ G = cells := by omega
  have h2 : hSl σ - geL G = slots := by omega
  unfold QN
  rw [h1, h2]
  exact W.iret hG.exec hG.bytes (hG.ret.trans hr0) (fun t ht hw => ⟨rfl, by rw [ht]; exact hW, fun q hq => by rw [ht]; exact hF.1 q hq, by rw [ht]; exact hF.2.1⟩) hF.2.2 hd hG.locks
theorem v_zret (hG : Gk Γ G own cc F L rt0) {x : Int32} {ty : FieldType} (hr0 : rt0 = some ty) (hn : narrow ty (.int x) = .int x) (hd : decode cc pc = .ok (.ireturn, 1)) : VM Γ G (QN Γ G evI) (rt x) σ pc lv [.int x] := by
  intro y σ' hm hr H locs cells slots ls hW hF hc hl
  cases hm
  have h1 : hSz σ - geZ G = cells := by omega
  have h2 : hSl σ - geL G = slots := by omega
  unfold QN
  rw [h1, h2]
  exact W.zret hG.exec hG.bytes (hG.ret.trans hr0) hn (fun t ht hw => ⟨rfl, by rw [ht]; exact hW, fun q hq => by rw [ht]; exact hF.1 q hq, by rw [ht]; exact hF.2.1⟩) hF.2.2 hd hG.locks
theorem v_vret (hG : Gk Γ G own cc F L rt0) (hr0 : rt0 = none) (hd : decode cc pc = .ok (.return_, 1)) : VM Γ G (QN Γ G evU) (rt ()) σ pc lv [] := by
  intro y σ' hm hr H locs cells slots ls hW hF hc hl
  cases hm
  have h1 : hSz σ - geZ G = cells := by omega
  have h2 : hSl σ - geL G = slots := by omega
  unfold QN
  rw [h1, h2]
  exact W.vret hG.exec hG.bytes (hG.ret.trans hr0) (fun t ht hw => ⟨rfl, by rw [ht]; exact hW, fun q hq => by rw [ht]; exact hF.1 q hq, by rw [ht]; exact hF.2.1⟩) hF.2.2 hd hG.locks
theorem v_aret (hG : Gk Γ G own cc F L rt0) {r : Option Nat} {ty : FieldType} (hr0 : rt0 = some ty) (hrt : (∃ n, ty = .object n) ∨ ∃ t, ty = .array t) (hd : decode cc pc = .ok (.areturn, 1)) : VM Γ G (QN Γ G evR) (rt r) σ pc lv [va_rf r] := by
  intro y σ' hm hr H locs cells slots ls hW hF hc hl
  cases hm
  have h1 : hSz σ - geZ G = cells := by omega
  have h2 : hSl σ - geL G = slots := by omega
  unfold QN
  rw [h1, h2]
  exact W.aret hG.exec hG.bytes (hG.ret.trans hr0) hrt (by cases r; exact Or.inl rfl; exact Or.inr ⟨_, rfl⟩) (fun t ht hw => ⟨rfl, by rw [ht]; exact hW, fun q hq => by rw [ht]; exact hF.1 q hq, by rw [ht]; exact hF.2.1⟩) hF.2.2 hd hG.locks
theorem v_fret (hG : Gk Γ G own cc F L rt0) {x : UInt32} (hr0 : rt0 = some .float) (hd : decode cc pc = .ok (.freturn, 1)) : VM Γ G (QN Γ G evF) (rt x) σ pc lv [.float x] := by
  intro y σ' hm hr H locs cells slots ls hW hF hc hl
  cases hm
  have h1 : hSz σ - geZ G = cells := by omega
  have h2 : hSl σ - geL G = slots := by omega
  unfold QN
  rw [h1, h2]
  exact W.fret hG.exec hG.bytes (hG.ret.trans hr0) (fun t ht hw => ⟨rfl, by rw [ht]; exact hW, fun q hq => by rw [ht]; exact hF.1 q hq, by rw [ht]; exact hF.2.1⟩) hF.2.2 hd hG.locks
theorem v_dret (hG : Gk Γ G own cc F L rt0) {x : UInt64} (hr0 : rt0 = some .double) (hd : decode cc pc = .ok (.dreturn, 1)) : VM Γ G (QN Γ G evD) (rt x) σ pc lv [.double x] := by
  intro y σ' hm hr H locs cells slots ls hW hF hc hl
  cases hm
  have h1 : hSz σ - geZ G = cells := by omega
  have h2 : hSl σ - geL G = slots := by omega
  unfold QN
  rw [h1, h2]
  exact W.dret hG.exec hG.bytes (hG.ret.trans hr0) (fun t ht hw => ⟨rfl, by rw [ht]; exact hW, fun q hq => by rw [ht]; exact hF.1 q hq, by rw [ht]; exact hF.2.1⟩) hF.2.2 hd hG.locks
/-! fields -/
theorem v_gI (hG : Gk Γ G own cc F L rt0) {k f : Nat} {r : Option Nat} {g : Int32 → Mr β} {C ref : String} {T : u_T} {N index : Nat} (hc : vwAll[k - 1]? = some (C, T, N)) (h0 : 0 < k ∧ k < 40 ∧ f < N) (hf : fRf k f = false) (hin : ∀ w ∈ u_ws C T N, w ∈ lw_all) (hlink : Cond.fieldLink own index ref (T f).2.1 (T f).2.2.1 ∈ lw_all) (hs : (T f).1 = ref) (hd : decode cc pc = .ok (.getfield index, 3))
    (kk : ∀ x, VM Γ G QB (g x) σ (pc + 3) lv (.int x :: st)) : VM Γ G QB (bd (gI k f r) g) σ pc lv (va_rf r :: st) := by
  intro y σ' hm hr H locs cells slots ls hW hF hcs hl
  obtain ⟨x, h1, h2⟩ := run_rd_inv hm
  obtain ⟨q, rfl, h3⟩ := Option.bind_eq_some_iff.mp h1
  split at h3
  · rename_i hk
    cases h3
    obtain ⟨r, cell, q0, q1, q2, q3, -, q4⟩ := hW.obj hk h0.1 h0.2.1
    cases hc.symm.trans q0
    obtain ⟨hS, hfc, kC, hkC, hkind⟩ := hG.vk.1 _ _ hc
    obtain ⟨cf, kf, fi, fd, hi, hsl⟩ := hS f h0.2.2
    refine W.getf hG.exec hG.bytes hG.own (hG.hts _ hlink) (by rw [← hs]; exact hi) (u_facts hfc hkC (u_lays hG.hts hin h0.2.2) hi).1 q1 q3 (v := .int (hI σ q f)) ?_ rfl rfl hd (kk _ y σ' h2 hr H locs cells slots ls hW hF hcs hl)
    rw [hsl, q4 f h0.2.2]
    simp [oV, hf]
  · cases h3
theorem v_gR (hG : Gk Γ G own cc F L rt0) {k f : Nat} {r : Option Nat} {g : Option Nat → Mr β} {C ref : String} {T : u_T} {N index : Nat} (hc : vwAll[k - 1]? = some (C, T, N)) (h0 : 0 < k ∧ k < 40 ∧ f < N) (hf : fRf k f = true) (hin : ∀ w ∈ u_ws C T N, w ∈ lw_all) (hlink : Cond.fieldLink own index ref (T f).2.1 (T f).2.2.1 ∈ lw_all) (hs : (T f).1 = ref) (hd : decode cc pc = .ok (.getfield index, 3))
    (kk : ∀ x, VM Γ G QB (g x) σ (pc + 3) lv (va_rf x :: st)) : VM Γ G QB (bd (gR k f r) g) σ pc lv (va_rf r :: st) := by
  intro y σ' hm hr H locs cells slots ls hW hF hcs hl
  obtain ⟨x, h1, h2⟩ := run_rd_inv hm
  obtain ⟨q, rfl, h3⟩ := Option.bind_eq_some_iff.mp h1
  split at h3
  · rename_i hk
    cases h3
    obtain ⟨r, cell, q0, q1, q2, q3, -, q4⟩ := hW.obj hk h0.1 h0.2.1
    cases hc.symm.trans q0
    obtain ⟨hS, hfc, kC, hkC, hkind⟩ := hG.vk.1 _ _ hc
    obtain ⟨cf, kf, fi, fd, hi, hsl⟩ := hS f h0.2.2
    refine W.getf hG.exec hG.bytes hG.own (hG.hts _ hlink) (by rw [← hs]; exact hi) (u_facts hfc hkC (u_lays hG.hts hin h0.2.2) hi).1 q1 q3 (v := va_rf (hR σ q f)) ?_ rfl rfl hd (kk _ y σ' h2 hr H locs cells slots ls hW hF hcs hl)
    rw [hsl, q4 f h0.2.2]
    simp [oV, hf]
  · cases h3
theorem v_gIN (hG : Gk Γ G own cc F L rt0) {k f : Nat} {r : Option Nat} {g : Int32 → Mr β} {C ref host : String} {T : u_T} {N index : Nat} (hc : vwAll[k - 1]? = some (C, T, N)) (h0 : 0 < k ∧ k < 40 ∧ f < N) (hf : fRf k f = false) (hin : ∀ w ∈ u_ws C T N, w ∈ lw_all) (hlink : Cond.fieldLinkNest own index ref (T f).2.1 (T f).2.2.1 host ∈ lw_tbl) (hs : (T f).1 = ref) (hd : decode cc pc = .ok (.getfield index, 3))
    (kk : ∀ x, VM Γ G QB (g x) σ (pc + 3) lv (.int x :: st)) : VM Γ G QB (bd (gI k f r) g) σ pc lv (va_rf r :: st) := by
  intro y σ' hm hr H locs cells slots ls hW hF hcs hl
  obtain ⟨x, h1, h2⟩ := run_rd_inv hm
  obtain ⟨q, rfl, h3⟩ := Option.bind_eq_some_iff.mp h1
  split at h3
  · rename_i hk
    cases h3
    obtain ⟨r, cell, q0, q1, q2, q3, -, q4⟩ := hW.obj hk h0.1 h0.2.1
    cases hc.symm.trans q0
    obtain ⟨hS, hfc, kC, hkC, hkind⟩ := hG.vk.1 _ _ hc
    obtain ⟨cf, kf, fi, fd, hi, hsl⟩ := hS f h0.2.2
    refine va_Wgetf hG.exec hG.bytes hG.own (hG.nwF hlink) (by rw [← hs]; exact hi) (u_facts hfc hkC (u_lays hG.hts hin h0.2.2) hi).1 q1 q3 (v := .int (hI σ q f)) ?_ rfl rfl hd (kk _ y σ' h2 hr H locs cells slots ls hW hF hcs hl)
    rw [hsl, q4 f h0.2.2]
    simp [oV, hf]
  · cases h3
theorem v_gRN (hG : Gk Γ G own cc F L rt0) {k f : Nat} {r : Option Nat} {g : Option Nat → Mr β} {C ref host : String} {T : u_T} {N index : Nat} (hc : vwAll[k - 1]? = some (C, T, N)) (h0 : 0 < k ∧ k < 40 ∧ f < N) (hf : fRf k f = true) (hin : ∀ w ∈ u_ws C T N, w ∈ lw_all) (hlink : Cond.fieldLinkNest own index ref (T f).2.1 (T f).2.2.1 host ∈ lw_tbl) (hs : (T f).1 = ref) (hd : decode cc pc = .ok (.getfield index, 3))
    (kk : ∀ x, VM Γ G QB (g x) σ (pc + 3) lv (va_rf x :: st)) : VM Γ G QB (bd (gR k f r) g) σ pc lv (va_rf r :: st) := by
  intro y σ' hm hr H locs cells slots ls hW hF hcs hl
  obtain ⟨x, h1, h2⟩ := run_rd_inv hm
  obtain ⟨q, rfl, h3⟩ := Option.bind_eq_some_iff.mp h1
  split at h3
  · rename_i hk
    cases h3
    obtain ⟨r, cell, q0, q1, q2, q3, -, q4⟩ := hW.obj hk h0.1 h0.2.1
    cases hc.symm.trans q0
    obtain ⟨hS, hfc, kC, hkC, hkind⟩ := hG.vk.1 _ _ hc
    obtain ⟨cf, kf, fi, fd, hi, hsl⟩ := hS f h0.2.2
    refine va_Wgetf hG.exec hG.bytes hG.own (hG.nwF hlink) (by rw [← hs]; exact hi) (u_facts hfc hkC (u_lays hG.hts hin h0.2.2) hi).1 q1 q3 (v := va_rf (hR σ q f)) ?_ rfl rfl hd (kk _ y σ' h2 hr H locs cells slots ls hW hF hcs hl)
    rw [hsl, q4 f h0.2.2]
    simp [oV, hf]
  · cases h3

def tyN (t : Nat) : FieldType := if t = 0 then .int else if t = 1 then .byte else if t = 2 then .boolean else .char
theorem okN_ok {t : Nat} {x : Int32} (h : okN t x = true) : narrow (tyN t) (.int x) = .int x ∧ fits (tyN t) (.int x) = true := by
  unfold okN at h
  unfold tyN
  split
  · exact ⟨rfl, rfl⟩
  · rename_i h0
    rw [if_neg h0] at h
    split
    · rename_i h1
      rw [if_pos h1, Bool.and_eq_true] at h
      exact ⟨congrArg Value.int (of_decide_eq_true h.1), h.2⟩
    · rename_i h1
      rw [if_neg h1] at h
      split
      · rename_i h2
        rw [if_pos h2, Bool.and_eq_true] at h
        exact ⟨congrArg Value.int (of_decide_eq_true h.1), h.2⟩
      · rename_i h2
        rw [if_neg h2, Bool.and_eq_true] at h
        exact ⟨congrArg Value.int (of_decide_eq_true h.1), h.2⟩
theorem nar_rf (t : FieldType) (x : Option Nat) : narrow t (va_rf x) = va_rf x := by cases x <;> cases t <;> rfl
theorem fits_rf {t : FieldType} (h : t.isReference = true) (x : Option Nat) : fits t (va_rf x) = true := by cases x <;> cases t <;> first | rfl | cases h
theorem Wd.putI {σ : Hp} {H H1 : Heap} {q k f : Nat} {x : Int32} {C : String} {T : u_T} {N : Nat} {cell : Cell} (hW : Wd Γ σ H) (hc : vwAll[k - 1]? = some (C, T, N)) (hk : hK σ q = k) (h0 : 0 < k ∧ k < 40 ∧ f < N) (hf : fRf k f = false) (hb : gaB Γ ≤ q)
    (hq : H[q]? = some cell ∧ cell.cls = (gaD Γ).1 (k - 1) ∧ cell.vm = .none ∧ ∀ j, j < N → cell.slots[(gaD Γ).2 (k - 1) j]? = some (oV σ q k j)) (hap : ∀ x y, x < N → y < N → x ≠ y → (gaD Γ).2 (k - 1) x ≠ (gaD Γ).2 (k - 1) y)
    (e1 : H1[q]? = some (cell.setSlot ((gaD Γ).2 (k - 1) f) (.int x))) (e2 : H1.size = H.size) (e3 : ∀ p, p ≠ q → H1[p]? = H[p]?) : Wd Γ (hwI σ q (up1 (hI σ q) f x)) H1 := by
  refine hW.upd (q := q) rfl (fun p hp => ⟨up1_n _ _ hp, rfl, rfl⟩) e2 e3 (Or.inl ⟨by rw [hK_wI, hk]; exact h0.1, by rw [hK_wI, hk]; exact h0.2.1, hb, (C, T, N), by rw [hK_wI, hk]; exact hc, ?_⟩)
  rw [hK_wI, hk]
  refine t_OB.to (V := updV (oV σ q k) f (.int x)) ⟨_, e1, hq.2.1, hq.2.2.1, t_set hq.2.2.2 hap h0.2.2 _⟩ (fun j hj => ?_)
  unfold updV
  by_cases h : j = f
  · rw [if_pos h, h]; simp [oV, hf, hI_wI, up1]
  · rw [if_neg h]; simp [oV, hI_wI, hR_wI, up1, h]
theorem Wd.putR {σ : Hp} {H H1 : Heap} {q k f : Nat} {x : Option Nat} {C : String} {T : u_T} {N : Nat} {cell : Cell} (hW : Wd Γ σ H) (hc : vwAll[k - 1]? = some (C, T, N)) (hk : hK σ q = k) (h0 : 0 < k ∧ k < 40 ∧ f < N) (hf : fRf k f = true) (hb : gaB Γ ≤ q)
    (hq : H[q]? = some cell ∧ cell.cls = (gaD Γ).1 (k - 1) ∧ cell.vm = .none ∧ ∀ j, j < N → cell.slots[(gaD Γ).2 (k - 1) j]? = some (oV σ q k j)) (hap : ∀ x y, x < N → y < N → x ≠ y → (gaD Γ).2 (k - 1) x ≠ (gaD Γ).2 (k - 1) y)
    (e1 : H1[q]? = some (cell.setSlot ((gaD Γ).2 (k - 1) f) (va_rf x))) (e2 : H1.size = H.size) (e3 : ∀ p, p ≠ q → H1[p]? = H[p]?) : Wd Γ (hwR σ q (up1 (hR σ q) f x)) H1 := by
  refine hW.upd (q := q) rfl (fun p hp => ⟨rfl, up1_n _ _ hp, rfl⟩) e2 e3 (Or.inl ⟨by rw [hK_wR, hk]; exact h0.1, by rw [hK_wR, hk]; exact h0.2.1, hb, (C, T, N), by rw [hK_wR, hk]; exact hc, ?_⟩)
  rw [hK_wR, hk]
  refine t_OB.to (V := updV (oV σ q k) f (va_rf x)) ⟨_, e1, hq.2.1, hq.2.2.1, t_set hq.2.2.2 hap h0.2.2 _⟩ (fun j hj => ?_)
  unfold updV
  by_cases h : j = f
  · rw [if_pos h, h]; simp [oV, hf, hR_wR, up1]
  · rw [if_neg h]; simp [oV, hI_wR, hR_wR, up1, h]
theorem v_pI (hG : Gk Γ G own cc F L rt0) {t k f : Nat} {r : Option Nat} {x : Int32} {g : Unit → Mr β} {C ref : String} {T : u_T} {N index : Nat} (hc : vwAll[k - 1]? = some (C, T, N)) (h0 : 0 < k ∧ k < 40 ∧ f < N) (hf : fRf k f = false) (hin : ∀ w ∈ u_ws C T N, w ∈ lw_all) (ty0 : Nat → FieldType) (hty : ∀ k, k < N → parseFieldDescriptor (T k).2.2.1 = some (ty0 k)) (hnm : ∀ a, a < N → ∀ b, b < N → a ≠ b → (T a).2.1 ≠ (T b).2.1) (hlink : Cond.fieldLink own index ref (T f).2.1 (T f).2.2.1 ∈ lw_all) (hs : (T f).1 = ref) (hfin : (T f).2.2.2 = false) (hd0 : parseFieldDescriptor (T f).2.2.1 = some (tyN t)) (hd : decode cc pc = .ok (.putfield index, 3))
    (kk : ∀ σ1, VM Γ G QB (g ()) σ1 (pc + 3) lv st) : VM Γ G QB (bd (pI t k f r x) g) σ pc lv (.int x :: va_rf r :: st) := by
  intro y σ' hm hr H locs cells slots ls hW hF hcs hl
  obtain ⟨h1, h2⟩ := run_wr_inv hm
  rw [Bool.and_eq_true] at h1
  obtain ⟨h1, h4⟩ := h1
  obtain ⟨hn, hfit⟩ := okN_ok h4
  cases r with
  | none => cases h1
  | some q =>
    have hk : hK σ q = k := of_decide_eq_true h1
    obtain ⟨hb, r, q0, cell, q1, q2, q3, q4⟩ := hW.objW hk h0.1 h0.2.1
    cases hc.symm.trans q0
    have hap := va_apart (own := own) hG.hts hin ty0 hty hnm hG.vk hc
    obtain ⟨hS, hfc, kC, hkC, hkind⟩ := hG.vk.1 _ _ hc
    obtain ⟨cf, kf, fi, fd, hi, hsl⟩ := hS f h0.2.2
    have hlay := hG.hts _ (hin _ (u_in_lay h0.2.2))
    unfold u_lay at hlay
    rw [if_neg (by rw [hfin]; decide)] at hlay
    have hst := (u_facts hfc hkC (u_lays hG.hts hin h0.2.2) hi).1
    have h6 := u_store hfc hkC hkind hlay hi hd0 hn hfit
    refine W.putK hG.exec hG.bytes (f := fd) ⟨hG.own, (hG.hts _ hlink), ⟨_, _, _, by rw [← hs]; exact hi⟩, hst⟩ (by rw [q2]; exact h6) q1 q3 (by rw [hsl]; exact k2_hasslot (q4 f h0.2.2)) rfl rfl hd fun H' e1 e2 e3 => ?_
    exact kk _ y σ' h2 hr H' _ cells slots ls (Wd.putI hW hc hk h0 hf hb ⟨q1, q2, q3, q4⟩ hap (by rw [← hsl]; exact e1) e2 e3) (hF.put e2 e3 hb) hcs hl
theorem v_pR (hG : Gk Γ G own cc F L rt0) {k f : Nat} {r : Option Nat} {x : Option Nat} {g : Unit → Mr β} {C ref : String} {T : u_T} {N index : Nat} (hc : vwAll[k - 1]? = some (C, T, N)) (h0 : 0 < k ∧ k < 40 ∧ f < N) (hf : fRf k f = true) (hin : ∀ w ∈ u_ws C T N, w ∈ lw_all) (ty0 : Nat → FieldType) (hty : ∀ k, k < N → parseFieldDescriptor (T k).2.2.1 = some (ty0 k)) (hnm : ∀ a, a < N → ∀ b, b < N → a ≠ b → (T a).2.1 ≠ (T b).2.1) (hlink : Cond.fieldLink own index ref (T f).2.1 (T f).2.2.1 ∈ lw_all) (hs : (T f).1 = ref) (hfin : (T f).2.2.2 = false) {fty : FieldType} (hd0 : parseFieldDescriptor (T f).2.2.1 = some fty) (hrt : fty.isReference = true) (hd : decode cc pc = .ok (.putfield index, 3))
    (kk : ∀ σ1, VM Γ G QB (g ()) σ1 (pc + 3) lv st) : VM Γ G QB (bd (pR k f r x) g) σ pc lv (va_rf x :: va_rf r :: st) := by
  intro y σ' hm hr H locs cells slots ls hW hF hcs hl
  obtain ⟨h1, h2⟩ := run_wr_inv hm
  have hn : narrow fty (va_rf x) = va_rf x := nar_rf fty x
  have hfit : fits fty (va_rf x) = true := fits_rf hrt x
  cases r with
  | none => cases h1
  | some q =>
    have hk : hK σ q = k := of_decide_eq_true h1
    obtain ⟨hb, r, q0, cell, q1, q2, q3, q4⟩ := hW.objW hk h0.1 h0.2.1
    cases hc.symm.trans q0
    have hap := va_apart (own := own) hG.hts hin ty0 hty hnm hG.vk hc
    obtain ⟨hS, hfc, kC, hkC, hkind⟩ := hG.vk.1 _ _ hc
    obtain ⟨cf, kf, fi, fd, hi, hsl⟩ := hS f h0.2.2
    have hlay := hG.hts _ (hin _ (u_in_lay h0.2.2))
    unfold u_lay at hlay
    rw [if_neg (by rw [hfin]; decide)] at hlay
    have hst := (u_facts hfc hkC (u_lays hG.hts hin h0.2.2) hi).1
    have h6 := u_store hfc hkC hkind hlay hi hd0 hn hfit
    refine W.putK hG.exec hG.bytes (f := fd) ⟨hG.own, (hG.hts _ hlink), ⟨_, _, _, by rw [← hs]; exact hi⟩, hst⟩ (by rw [q2]; exact h6) q1 q3 (by rw [hsl]; exact k2_hasslot (q4 f h0.2.2)) rfl rfl hd fun H' e1 e2 e3 => ?_
    exact kk _ y σ' h2 hr H' _ cells slots ls (Wd.putR hW hc hk h0 hf hb ⟨q1, q2, q3, q4⟩ hap (by rw [← hsl]; exact e1) e2 e3) (hF.put e2 e3 hb) hcs hl
theorem v_pIF (hG : Gk Γ G own cc F L rt0) {t k f : Nat} {r : Option Nat} {x : Int32} {g : Unit → Mr β} {C ref : String} {T : u_T} {N index : Nat} (hc : vwAll[k - 1]? = some (C, T, N)) (h0 : 0 < k ∧ k < 40 ∧ f < N) (hf : fRf k f = false) (hin : ∀ w ∈ u_ws C T N, w ∈ lw_all) (ty0 : Nat → FieldType) (hty : ∀ k, k < N → parseFieldDescriptor (T k).2.2.1 = some (ty0 k)) (hnm : ∀ a, a < N → ∀ b, b < N → a ≠ b → (T a).2.1 ≠ (T b).2.1) (hlink : Cond.fieldLink own index ref (T f).2.1 (T f).2.2.1 ∈ lw_all) (hs : (T f).1 = ref) (hfin : (T f).2.2.2 = true) (hin2 : G.2.2.1.1.name = "<init>") (hdecl : (T f).1 = own) (hd0 : parseFieldDescriptor (T f).2.2.1 = some (tyN t)) (hd : decode cc pc = .ok (.putfield index, 3))
    (kk : ∀ σ1, VM Γ G QB (g ()) σ1 (pc + 3) lv st) : VM Γ G QB (bd (pI t k f r x) g) σ pc lv (.int x :: va_rf r :: st) := by
  intro y σ' hm hr H locs cells slots ls hW hF hcs hl
  obtain ⟨h1, h2⟩ := run_wr_inv hm
  rw [Bool.and_eq_true] at h1
  obtain ⟨h1, h4⟩ := h1
  obtain ⟨hn, hfit⟩ := okN_ok h4
  cases r with
  | none => cases h1
  | some q =>
    have hk : hK σ q = k := of_decide_eq_true h1
    obtain ⟨hb, r, q0, cell, q1, q2, q3, q4⟩ := hW.objW hk h0.1 h0.2.1
    cases hc.symm.trans q0
    have hap := va_apart (own := own) hG.hts hin ty0 hty hnm hG.vk hc
    obtain ⟨hS, hfc, kC, hkC, hkind⟩ := hG.vk.1 _ _ hc
    obtain ⟨cf, kf, fi, fd, hi, hsl⟩ := hS f h0.2.2
    have hlay := hG.hts _ (hin _ (u_in_lay h0.2.2))
    unfold u_lay at hlay
    rw [if_pos hfin] at hlay
    have hst := (u_facts hfc hkC (u_lays hG.hts hin h0.2.2) hi).1
    have hcf : (geM G).cls = cf := by
      obtain ⟨_, _, c', _, _, _, -, -, hf', -, -, -, hown2, -⟩ := Cond.laysFinal_spec hlay
      have e1 : c' = cf := by have := hi.symm.trans hf'; simp at this; exact this.1.symm
      rw [hdecl] at hown2
      rw [← e1]; exact Option.some.inj (hG.own.symm.trans hown2)
    have h6 := u_fits hfc hkC hkind (Or.inr hlay) hi hd0 hn hfit
    refine W.putFinK hG.exec hG.bytes hG.own (hG.hts _ hlink) (by rw [← hs]; exact hi) hst hcf hin2 (by rw [q2]; exact h6) q1 q3 (by rw [hsl]; exact k2_hasslot (q4 f h0.2.2)) rfl rfl hd fun H' e1 e2 e3 => ?_
    exact kk _ y σ' h2 hr H' _ cells slots ls (Wd.putI hW hc hk h0 hf hb ⟨q1, q2, q3, q4⟩ hap (by rw [← hsl]; exact e1) e2 e3) (hF.put e2 e3 hb) hcs hl
theorem v_pRF (hG : Gk Γ G own cc F L rt0) {k f : Nat} {r : Option Nat} {x : Option Nat} {g : Unit → Mr β} {C ref : String} {T : u_T} {N index : Nat} (hc : vwAll[k - 1]? = some (C, T, N)) (h0 : 0 < k ∧ k < 40 ∧ f < N) (hf : fRf k f = true) (hin : ∀ w ∈ u_ws C T N, w ∈ lw_all) (ty0 : Nat → FieldType) (hty : ∀ k, k < N → parseFieldDescriptor (T k).2.2.1 = some (ty0 k)) (hnm : ∀ a, a < N → ∀ b, b < N → a ≠ b → (T a).2.1 ≠ (T b).2.1) (hlink : Cond.fieldLink own index ref (T f).2.1 (T f).2.2.1 ∈ lw_all) (hs : (T f).1 = ref) (hfin : (T f).2.2.2 = true) (hin2 : G.2.2.1.1.name = "<init>") (hdecl : (T f).1 = own) {fty : FieldType} (hd0 : parseFieldDescriptor (T f).2.2.1 = some fty) (hrt : fty.isReference = true) (hd : decode cc pc = .ok (.putfield index, 3))
    (kk : ∀ σ1, VM Γ G QB (g ()) σ1 (pc + 3) lv st) : VM Γ G QB (bd (pR k f r x) g) σ pc lv (va_rf x :: va_rf r :: st) := by
  intro y σ' hm hr H locs cells slots ls hW hF hcs hl
  obtain ⟨h1, h2⟩ := run_wr_inv hm
  have hn : narrow fty (va_rf x) = va_rf x := nar_rf fty x
  have hfit : fits fty (va_rf x) = true := fits_rf hrt x
  cases r with
  | none => cases h1
  | some q =>
    have hk : hK σ q = k := of_decide_eq_true h1
    obtain ⟨hb, r, q0, cell, q1, q2, q3, q4⟩ := hW.objW hk h0.1 h0.2.1
    cases hc.symm.trans q0
    have hap := va_apart (own := own) hG.hts hin ty0 hty hnm hG.vk hc
    obtain ⟨hS, hfc, kC, hkC, hkind⟩ := hG.vk.1 _ _ hc
    obtain ⟨cf, kf, fi, fd, hi, hsl⟩ := hS f h0.2.2
    have hlay := hG.hts _ (hin _ (u_in_lay h0.2.2))
    unfold u_lay at hlay
    rw [if_pos hfin] at hlay
    have hst := (u_facts hfc hkC (u_lays hG.hts hin h0.2.2) hi).1
    have hcf : (geM G).cls = cf := by
      obtain ⟨_, _, c', _, _, _, -, -, hf', -, -, -, hown2, -⟩ := Cond.laysFinal_spec hlay
      have e1 : c' = cf := by have := hi.symm.trans hf'; simp at this; exact this.1.symm
      rw [hdecl] at hown2
      rw [← e1]; exact Option.some.inj (hG.own.symm.trans hown2)
    have h6 := u_fits hfc hkC hkind (Or.inr hlay) hi hd0 hn hfit
    refine W.putFinK hG.exec hG.bytes hG.own (hG.hts _ hlink) (by rw [← hs]; exact hi) hst hcf hin2 (by rw [q2]; exact h6) q1 q3 (by rw [hsl]; exact k2_hasslot (q4 f h0.2.2)) rfl rfl hd fun H' e1 e2 e3 => ?_
    exact kk _ y σ' h2 hr H' _ cells slots ls (Wd.putR hW hc hk h0 hf hb ⟨q1, q2, q3, q4⟩ hap (by rw [← hsl]; exact e1) e2 e3) (hF.put e2 e3 hb) hcs hl
theorem v_pIN (hG : Gk Γ G own cc F L rt0) {t k f : Nat} {r : Option Nat} {x : Int32} {g : Unit → Mr β} {C ref host : String} {T : u_T} {N index : Nat} (hc : vwAll[k - 1]? = some (C, T, N)) (h0 : 0 < k ∧ k < 40 ∧ f < N) (hf : fRf k f = false) (hin : ∀ w ∈ u_ws C T N, w ∈ lw_all) (ty0 : Nat → FieldType) (hty : ∀ k, k < N → parseFieldDescriptor (T k).2.2.1 = some (ty0 k)) (hnm : ∀ a, a < N → ∀ b, b < N → a ≠ b → (T a).2.1 ≠ (T b).2.1) (hlink : Cond.fieldLinkNest own index ref (T f).2.1 (T f).2.2.1 host ∈ lw_tbl) (hs : (T f).1 = ref) (hfin : (T f).2.2.2 = false) (hd0 : parseFieldDescriptor (T f).2.2.1 = some (tyN t)) (hd : decode cc pc = .ok (.putfield index, 3))
    (kk : ∀ σ1, VM Γ G QB (g ()) σ1 (pc + 3) lv st) : VM Γ G QB (bd (pI t k f r x) g) σ pc lv (.int x :: va_rf r :: st) := by
  intro y σ' hm hr H locs cells slots ls hW hF hcs hl
  obtain ⟨h1, h2⟩ := run_wr_inv hm
  rw [Bool.and_eq_true] at h1
  obtain ⟨h1, h4⟩ := h1
  obtain ⟨hn, hfit⟩ := okN_ok h4
  cases r with
  | none => cases h1
  | some q =>
    have hk : hK σ q = k := of_decide_eq_true h1
    obtain ⟨hb, r, q0, cell, q1, q2, q3, q4⟩ := hW.objW hk h0.1 h0.2.1
    cases hc.symm.trans q0
    have hap := va_apart (own := own) hG.hts hin ty0 hty hnm hG.vk hc
    obtain ⟨hS, hfc, kC, hkC, hkind⟩ := hG.vk.1 _ _ hc
    obtain ⟨cf, kf, fi, fd, hi, hsl⟩ := hS f h0.2.2
    have hlay := hG.hts _ (hin _ (u_in_lay h0.2.2))
    unfold u_lay at hlay
    rw [if_neg (by rw [hfin]; decide)] at hlay
    have hst := (u_facts hfc hkC (u_lays hG.hts hin h0.2.2) hi).1
    have h6 := u_store hfc hkC hkind hlay hi hd0 hn hfit
    refine va_WputK hG.exec hG.bytes (f := fd) hG.own (hG.nwF hlink) (by rw [← hs]; exact hi) hst (by rw [q2]; exact h6) q1 q3 (by rw [hsl]; exact k2_hasslot (q4 f h0.2.2)) rfl rfl hd fun H' e1 e2 e3 => ?_
    exact kk _ y σ' h2 hr H' _ cells slots ls (Wd.putI hW hc hk h0 hf hb ⟨q1, q2, q3, q4⟩ hap (by rw [← hsl]; exact e1) e2 e3) (hF.put e2 e3 hb) hcs hl
theorem v_pRN (hG : Gk Γ G own cc F L rt0) {k f : Nat} {r : Option Nat} {x : Option Nat} {g : Unit → Mr β} {C ref host : String} {T : u_T} {N index : Nat} (hc : vwAll[k - 1]? = some (C, T, N)) (h0 : 0 < k ∧ k < 40 ∧ f < N) (hf : fRf k f = true) (hin : ∀ w ∈ u_ws C T N, w ∈ lw_all) (ty0 : Nat → FieldType) (hty : ∀ k, k < N → parseFieldDescriptor (T k).2.2.1 = some (ty0 k)) (hnm : ∀ a, a < N → ∀ b, b < N → a ≠ b → (T a).2.1 ≠ (T b).2.1) (hlink : Cond.fieldLinkNest own index ref (T f).2.1 (T f).2.2.1 host ∈ lw_tbl) (hs : (T f).1 = ref) (hfin : (T f).2.2.2 = false) {fty : FieldType} (hd0 : parseFieldDescriptor (T f).2.2.1 = some fty) (hrt : fty.isReference = true) (hd : decode cc pc = .ok (.putfield index, 3))
    (kk : ∀ σ1, VM Γ G QB (g ()) σ1 (pc + 3) lv st) : VM Γ G QB (bd (pR k f r x) g) σ pc lv (va_rf x :: va_rf r :: st) := by
  intro y σ' hm hr H locs cells slots ls hW hF hcs hl
  obtain ⟨h1, h2⟩ := run_wr_inv hm
  have hn : narrow fty (va_rf x) = va_rf x := nar_rf fty x
  have hfit : fits fty (va_rf x) = true := fits_rf hrt x
  cases r with
  | none => cases h1
  | some q =>
    have hk : hK σ q = k := of_decide_eq_true h1
    obtain ⟨hb, r, q0, cell, q1, q2, q3, q4⟩ := hW.objW hk h0.1 h0.2.1
    cases hc.symm.trans q0
    have hap := va_apart (own := own) hG.hts hin ty0 hty hnm hG.vk hc
    obtain ⟨hS, hfc, kC, hkC, hkind⟩ := hG.vk.1 _ _ hc
    obtain ⟨cf, kf, fi, fd, hi, hsl⟩ := hS f h0.2.2
    have hlay := hG.hts _ (hin _ (u_in_lay h0.2.2))
    unfold u_lay at hlay
    rw [if_neg (by rw [hfin]; decide)] at hlay
    have hst := (u_facts hfc hkC (u_lays hG.hts hin h0.2.2) hi).1
    have h6 := u_store hfc hkC hkind hlay hi hd0 hn hfit
    refine va_WputK hG.exec hG.bytes (f := fd) hG.own (hG.nwF hlink) (by rw [← hs]; exact hi) hst (by rw [q2]; exact h6) q1 q3 (by rw [hsl]; exact k2_hasslot (q4 f h0.2.2)) rfl rfl hd fun H' e1 e2 e3 => ?_
    exact kk _ y σ' h2 hr H' _ cells slots ls (Wd.putR hW hc hk h0 hf hb ⟨q1, q2, q3, q4⟩ hap (by rw [← hsl]; exact e1) e2 e3) (hF.put e2 e3 hb) hcs hl
theorem nrk_ok {t : Nat} {x : Int32} (h : nrk t x = true) : narrow (tyN t) (.int x) = .int x := by
  unfold nrk at h
  unfold tyN
  split
  · rfl
  · rename_i h0
    rw [if_neg h0] at h
    split
    · rename_i h1
      rw [if_pos h1] at h
      exact congrArg Value.int (of_decide_eq_true h)
    · rename_i h1
      rw [if_neg h1] at h
      split
      · rename_i h2
        rw [if_pos h2] at h
        exact congrArg Value.int (of_decide_eq_true h)
      · rename_i h2
        rw [if_neg h2] at h
        exact congrArg Value.int (of_decide_eq_true h)
/-! arrays -/
theorem v_aN (hG : Gk Γ G own cc F L rt0) {k : Nat} {r : Option Nat} {g : Int32 → Mr β} (h0 : 41 ≤ k ∧ k < 52) (hd : decode cc pc = .ok (.arraylength, 1))
    (kk : ∀ x, VM Γ G QB (g x) σ (pc + 1) lv (.int x :: st)) : VM Γ G QB (bd (aN k r) g) σ pc lv (va_rf r :: st) := by
  intro y σ' hm hr H locs cells slots ls hW hF hcs hl
  obtain ⟨x, h1, h2⟩ := run_rd_inv hm
  obtain ⟨q, rfl, h3⟩ := Option.bind_eq_some_iff.mp h1
  split at h3
  · rename_i hk
    cases h3
    obtain ⟨cell, q1, q2, q3, q4, q5⟩ := hW.arr hG hk h0.1 h0.2
    exact W.alen (n := Int32.ofNat (hN σ q)) hG.exec hG.bytes q1 q2 (by rw [q4]) rfl rfl hd (kk _ y σ' h2 hr H locs cells slots ls hW hF hcs hl)
  · cases h3
theorem inI_ok {i : Int32} {n : Nat} (h : inI i n = true) : ¬ (i < 0 ∨ n ≤ i.toNatClampNeg) := of_decide_eq_true h
theorem v_iald (hG : Gk Γ G own cc F L rt0) {r : Option Nat} {i : Int32} {g : Int32 → Mr β} (hd : decode cc pc = .ok (.iaload, 1))
    (kk : ∀ x, VM Γ G QB (g x) σ (pc + 1) lv (.int x :: st)) : VM Γ G QB (bd (aI 41 r i) g) σ pc lv (.int i :: va_rf r :: st) := by
  intro y σ' hm hr H locs cells slots ls hW hF hcs hl
  obtain ⟨x, h1, h2⟩ := run_rd_inv hm
  obtain ⟨q, rfl, h3⟩ := Option.bind_eq_some_iff.mp h1
  split at h3
  · rename_i hk
    cases h3
    obtain ⟨cell, q1, q2, q3, q4, q5⟩ := hW.arr hG hk.1 (by decide) (by decide)
    have hin := inI_ok hk.2
    exact W.iald (v := .int (hI σ q i.toNatClampNeg)) hG.exec hG.bytes q1 q2 q3 (by rw [q4]; exact hin) (by rw [q5 _ (Nat.not_le.mp fun z => hin (Or.inr z))]; rfl) rfl rfl hd (kk _ y σ' h2 hr H locs cells slots ls hW hF hcs hl)
  · cases h3
theorem v_bald (hG : Gk Γ G own cc F L rt0) {r : Option Nat} {i : Int32} {g : Int32 → Mr β} (hd : decode cc pc = .ok (.baload, 1))
    (kk : ∀ x, VM Γ G QB (g x) σ (pc + 1) lv (.int x :: st)) : VM Γ G QB (bd (aI 42 r i) g) σ pc lv (.int i :: va_rf r :: st) := by
  intro y σ' hm hr H locs cells slots ls hW hF hcs hl
  obtain ⟨x, h1, h2⟩ := run_rd_inv hm
  obtain ⟨q, rfl, h3⟩ := Option.bind_eq_some_iff.mp h1
  split at h3
  · rename_i hk
    cases h3
    obtain ⟨cell, q1, q2, q3, q4, q5⟩ := hW.arr hG hk.1 (by decide) (by decide)
    have hin := inI_ok hk.2
    exact W.bald (v := .int (hI σ q i.toNatClampNeg)) hG.exec hG.bytes q1 q2 q3 (by rw [q4]; exact hin) (by rw [q5 _ (Nat.not_le.mp fun z => hin (Or.inr z))]; rfl) rfl rfl hd (kk _ y σ' h2 hr H locs cells slots ls hW hF hcs hl)
  · cases h3
theorem v_zald (hG : Gk Γ G own cc F L rt0) {r : Option Nat} {i : Int32} {g : Int32 → Mr β} (hd : decode cc pc = .ok (.baload, 1))
    (kk : ∀ x, VM Γ G QB (g x) σ (pc + 1) lv (.int x :: st)) : VM Γ G QB (bd (aI 43 r i) g) σ pc lv (.int i :: va_rf r :: st) := by
  intro y σ' hm hr H locs cells slots ls hW hF hcs hl
  obtain ⟨x, h1, h2⟩ := run_rd_inv hm
  obtain ⟨q, rfl, h3⟩ := Option.bind_eq_some_iff.mp h1
  split at h3
  · rename_i hk
    cases h3
    obtain ⟨cell, q1, q2, q3, q4, q5⟩ := hW.arr hG hk.1 (by decide) (by decide)
    have hin := inI_ok hk.2
    exact W.zald (v := .int (hI σ q i.toNatClampNeg)) hG.exec hG.bytes q1 q2 q3 (by rw [q4]; exact hin) (by rw [q5 _ (Nat.not_le.mp fun z => hin (Or.inr z))]; rfl) rfl rfl hd (kk _ y σ' h2 hr H locs cells slots ls hW hF hcs hl)
  · cases h3
theorem v_lald (hG : Gk Γ G own cc F L rt0) {r : Option Nat} {i : Int32} {g : UInt64 → Mr β} (hd : decode cc pc = .ok (.laload, 1))
    (kk : ∀ x, VM Γ G QB (g x) σ (pc + 1) lv (.long x.toInt64 :: st)) : VM Γ G QB (bd (aL 44 r i) g) σ pc lv (.int i :: va_rf r :: st) := by
  intro y σ' hm hr H locs cells slots ls hW hF hcs hl
  obtain ⟨x, h1, h2⟩ := run_rd_inv hm
  obtain ⟨q, rfl, h3⟩ := Option.bind_eq_some_iff.mp h1
  split at h3
  · rename_i hk
    cases h3
    obtain ⟨cell, q1, q2, q3, q4, q5⟩ := hW.arr hG hk.1 (by decide) (by decide)
    have hin := inI_ok hk.2
    exact W.lald (v := .long (hL σ q i.toNatClampNeg).toInt64) hG.exec hG.bytes q1 q2 q3 (by rw [q4]; exact hin) (by rw [q5 _ (Nat.not_le.mp fun z => hin (Or.inr z))]; rfl) rfl rfl hd (kk _ y σ' h2 hr H locs cells slots ls hW hF hcs hl)
  · cases h3
theorem v_dald (hG : Gk Γ G own cc F L rt0) {r : Option Nat} {i : Int32} {g : UInt64 → Mr β} (hd : decode cc pc = .ok (.daload, 1))
    (kk : ∀ x, VM Γ G QB (g x) σ (pc + 1) lv (.double x :: st)) : VM Γ G QB (bd (aL 45 r i) g) σ pc lv (.int i :: va_rf r :: st) := by
  intro y σ' hm hr H locs cells slots ls hW hF hcs hl
  obtain ⟨x, h1, h2⟩ := run_rd_inv hm
  obtain ⟨q, rfl, h3⟩ := Option.bind_eq_some_iff.mp h1
  split at h3
  · rename_i hk
    cases h3
    obtain ⟨cell, q1, q2, q3, q4, q5⟩ := hW.arr hG hk.1 (by decide) (by decide)
    have hin := inI_ok hk.2
    exact W.dald (v := .double (hL σ q i.toNatClampNeg)) hG.exec hG.bytes q1 q2 q3 (by rw [q4]; exact hin) (by rw [q5 _ (Nat.not_le.mp fun z => hin (Or.inr z))]; rfl) rfl rfl hd (kk _ y σ' h2 hr H locs cells slots ls hW hF hcs hl)
  · cases h3
theorem v_aald (hG : Gk Γ G own cc F L rt0) {k : Nat} {r : Option Nat} {i : Int32} {g : (Option Nat) → Mr β} (h0 : 46 ≤ k ∧ k < 52 ∧ (tyA k).isReference = true) (hd : decode cc pc = .ok (.aaload, 1))
    (kk : ∀ x, VM Γ G QB (g x) σ (pc + 1) lv (va_rf x :: st)) : VM Γ G QB (bd (aR k r i) g) σ pc lv (.int i :: va_rf r :: st) := by
  intro y σ' hm hr H locs cells slots ls hW hF hcs hl
  obtain ⟨x, h1, h2⟩ := run_rd_inv hm
  obtain ⟨q, rfl, h3⟩ := Option.bind_eq_some_iff.mp h1
  split at h3
  · rename_i hk
    cases h3
    obtain ⟨cell, q1, q2, q3, q4, q5⟩ := hW.arr hG hk.1 (by omega) (by omega)
    have hin := inI_ok hk.2
    exact W.aald (v := va_rf (hR σ q i.toNatClampNeg)) hG.exec hG.bytes q1 q2 h0.2.2 q3 (by rw [q4]; exact hin) (by rw [q5 _ (Nat.not_le.mp fun z => hin (Or.inr z))]; unfold aV; rw [if_neg (by omega), if_neg (by omega), if_neg (by omega)]) rfl rfl hd (kk _ y σ' h2 hr H locs cells slots ls hW hF hcs hl)
  · cases h3
theorem Wd.putA {σ σ1 : Hp} {H H1 : Heap} {q k j : Nat} {v : Value} (hW : Wd Γ σ H) (hk : hK σ q = k) (h0 : 41 ≤ k ∧ k < 60) (hb : gaB Γ ≤ q) (e1 : σ1.1 = σ.1) (e2 : ∀ p, p ≠ q → hI σ1 p = hI σ p ∧ hR σ1 p = hR σ p ∧ hL σ1 p = hL σ p)
    (hv : aV σ1 q k = updV (aV σ q k) j v) (e : H1[q]? = some ((arrV (gaA Γ k) (hN σ q) (aV σ q k)).setSlot j v)) (z : H1.size = H.size) (oq : ∀ p, p ≠ q → H1[p]? = H[p]?) : Wd Γ σ1 H1 := by
  have k1 : hK σ1 = hK σ := by unfold hK; rw [e1]
  have k2 : hN σ1 = hN σ := by unfold hN; rw [e1]
  refine hW.upd (q := q) e1 e2 z oq (Or.inr (Or.inl ⟨by rw [k1, hk]; exact h0.1, by rw [k1, hk]; exact h0.2, hb, ?_⟩))
  unfold wcA
  rw [k1, k2, hk, e, hv, arrV_store]
theorem aV_ref {k q : Nat} (h : 46 ≤ k) : aV σ q k = fun j => va_rf (hR σ q j) := by
  funext j
  unfold aV
  rw [if_neg (by omega), if_neg (by omega), if_neg (by omega)]
theorem isA_ok {a : Hp} {k : Nat} {r : Option Nat} {i : Int32} (h : isA a k r i = true) : ∃ q, r = some q ∧ hK a q = k ∧ ¬ (i < 0 ∨ hN a q ≤ i.toNatClampNeg) := by
  cases r with
  | none => cases h
  | some q =>
    have h : (decide (hK a q = k) && inI i (hN a q)) = true := h
    rw [Bool.and_eq_true] at h
    exact ⟨q, rfl, of_decide_eq_true h.1, inI_ok h.2⟩
theorem v_iast (hG : Gk Γ G own cc F L rt0) {r : Option Nat} {i : Int32} {x : Int32} {g : Unit → Mr β} (hd : decode cc pc = .ok (.iastore, 1))
    (kk : ∀ σ1, VM Γ G QB (g ()) σ1 (pc + 1) lv st) : VM Γ G QB (bd (sI 41 r i x) g) σ pc lv (.int x :: .int i :: va_rf r :: st) := by
  intro y σ' hm hr H locs cells slots ls hW hF hcs hl
  obtain ⟨h1, h2⟩ := run_wr_inv hm
  obtain ⟨q, rfl, hk, hin⟩ := isA_ok h1
  obtain ⟨hb, hq⟩ := hW.arrW hk (by decide) (by decide)
  have hz : (arrV (gaA Γ 41) (hN σ q) (aV σ q 41)).slots.size = hN σ q := arrV_size _ _ _
  have hA := (hG.vk.2 _ _ (tysAt 41 (by decide) (by decide))).1 (hN σ q) (aV σ q 41)
  refine W.iast hG.exec hG.bytes hq hA (fun z => by cases z) (by rw [hz]; exact hin) rfl rfl hd fun H' e z oq => ?_
  refine kk _ y σ' h2 hr H' _ cells slots ls (hW.putA (j := i.toNatClampNeg) (v := .int x) hk (by decide) hb rfl (fun p hp => ⟨up1_n _ _ hp, rfl, rfl⟩) ?_ e z oq) (hF.put z oq hb) hcs hl
  funext j
  by_cases hj : j = i.toNatClampNeg
  · simp [aV, updV, hI_wI, up1, nrA, hj]
  · simp [aV, updV, hI_wI, up1, hj]
theorem v_bast (hG : Gk Γ G own cc F L rt0) {r : Option Nat} {i : Int32} {x : Int32} {g : Unit → Mr β} (hd : decode cc pc = .ok (.bastore, 1))
    (kk : ∀ σ1, VM Γ G QB (g ()) σ1 (pc + 1) lv st) : VM Γ G QB (bd (sI 42 r i x) g) σ pc lv (.int x :: .int i :: va_rf r :: st) := by
  intro y σ' hm hr H locs cells slots ls hW hF hcs hl
  obtain ⟨h1, h2⟩ := run_wr_inv hm
  obtain ⟨q, rfl, hk, hin⟩ := isA_ok h1
  obtain ⟨hb, hq⟩ := hW.arrW hk (by decide) (by decide)
  have hz : (arrV (gaA Γ 42) (hN σ q) (aV σ q 42)).slots.size = hN σ q := arrV_size _ _ _
  have hA := (hG.vk.2 _ _ (tysAt 42 (by decide) (by decide))).1 (hN σ q) (aV σ q 42)
  refine W.bast hG.exec hG.bytes hq hA (fun z => by cases z) (by rw [hz]; exact hin) rfl rfl hd fun H' e z oq => ?_
  refine kk _ y σ' h2 hr H' _ cells slots ls (hW.putA (j := i.toNatClampNeg) (v := narrow .byte (.int x)) hk (by decide) hb rfl (fun p hp => ⟨up1_n _ _ hp, rfl, rfl⟩) ?_ e z oq) (hF.put z oq hb) hcs hl
  funext j
  by_cases hj : j = i.toNatClampNeg
  · simp [aV, updV, hI_wI, narrow, up1, nrA, hj]
  · simp [aV, updV, hI_wI, narrow, up1, hj]
theorem v_zast (hG : Gk Γ G own cc F L rt0) {r : Option Nat} {i : Int32} {x : Int32} {g : Unit → Mr β} (hd : decode cc pc = .ok (.bastore, 1))
    (kk : ∀ σ1, VM Γ G QB (g ()) σ1 (pc + 1) lv st) : VM Γ G QB (bd (sI 43 r i x) g) σ pc lv (.int x :: .int i :: va_rf r :: st) := by
  intro y σ' hm hr H locs cells slots ls hW hF hcs hl
  obtain ⟨h1, h2⟩ := run_wr_inv hm
  obtain ⟨q, rfl, hk, hin⟩ := isA_ok h1
  obtain ⟨hb, hq⟩ := hW.arrW hk (by decide) (by decide)
  have hz : (arrV (gaA Γ 43) (hN σ q) (aV σ q 43)).slots.size = hN σ q := arrV_size _ _ _
  have hA := (hG.vk.2 _ _ (tysAt 43 (by decide) (by decide))).1 (hN σ q) (aV σ q 43)
  refine W.zast hG.exec hG.bytes hq hA (fun z => by cases z) (by rw [hz]; exact hin) rfl rfl hd fun H' e z oq => ?_
  refine kk _ y σ' h2 hr H' _ cells slots ls (hW.putA (j := i.toNatClampNeg) (v := narrow .boolean (.int x)) hk (by decide) hb rfl (fun p hp => ⟨up1_n _ _ hp, rfl, rfl⟩) ?_ e z oq) (hF.put z oq hb) hcs hl
  funext j
  by_cases hj : j = i.toNatClampNeg
  · simp [aV, updV, hI_wI, narrow, up1, nrA, hj]
  · simp [aV, updV, hI_wI, narrow, up1, hj]
theorem v_last (hG : Gk Γ G own cc F L rt0) {r : Option Nat} {i : Int32} {x : Int64} {g : Unit → Mr β} (hd : decode cc pc = .ok (.lastore, 1))
    (kk : ∀ σ1, VM Γ G QB (g ()) σ1 (pc + 1) lv st) : VM Γ G QB (bd (sL 44 r i x.toUInt64) g) σ pc lv (.long x :: .int i :: va_rf r :: st) := by
  intro y σ' hm hr H locs cells slots ls hW hF hcs hl
  obtain ⟨h1, h2⟩ := run_wr_inv hm
  obtain ⟨q, rfl, hk, hin⟩ := isA_ok h1
  obtain ⟨hb, hq⟩ := hW.arrW hk (by decide) (by decide)
  have hz : (arrV (gaA Γ 44) (hN σ q) (aV σ q 44)).slots.size = hN σ q := arrV_size _ _ _
  have hA := (hG.vk.2 _ _ (tysAt 44 (by decide) (by decide))).1 (hN σ q) (aV σ q 44)
  refine W.last hG.exec hG.bytes hq hA (fun z => by cases z) (by rw [hz]; exact hin) rfl rfl hd fun H' e z oq => ?_
  refine kk _ y σ' h2 hr H' _ cells slots ls (hW.putA (j := i.toNatClampNeg) (v := .long x) hk (by decide) hb rfl (fun p hp => ⟨rfl, rfl, up1_n _ _ hp⟩) ?_ e z oq) (hF.put z oq hb) hcs hl
  funext j
  by_cases hj : j = i.toNatClampNeg
  · simp [aV, updV, hL_wL, up1, nrA, hj]
  · simp [aV, updV, hL_wL, up1, hj]
theorem v_dast (hG : Gk Γ G own cc F L rt0) {r : Option Nat} {i : Int32} {x : UInt64} {g : Unit → Mr β} (hd : decode cc pc = .ok (.dastore, 1))
    (kk : ∀ σ1, VM Γ G QB (g ()) σ1 (pc + 1) lv st) : VM Γ G QB (bd (sL 45 r i x) g) σ pc lv (.double x :: .int i :: va_rf r :: st) := by
  intro y σ' hm hr H locs cells slots ls hW hF hcs hl
  obtain ⟨h1, h2⟩ := run_wr_inv hm
  obtain ⟨q, rfl, hk, hin⟩ := isA_ok h1
  obtain ⟨hb, hq⟩ := hW.arrW hk (by decide) (by decide)
  have hz : (arrV (gaA Γ 45) (hN σ q) (aV σ q 45)).slots.size = hN σ q := arrV_size _ _ _
  have hA := (hG.vk.2 _ _ (tysAt 45 (by decide) (by decide))).1 (hN σ q) (aV σ q 45)
  refine W.dast hG.exec hG.bytes hq hA (fun z => by cases z) (by rw [hz]; exact hin) rfl rfl hd fun H' e z oq => ?_
  refine kk _ y σ' h2 hr H' _ cells slots ls (hW.putA (j := i.toNatClampNeg) (v := .double x) hk (by decide) hb rfl (fun p hp => ⟨rfl, rfl, up1_n _ _ hp⟩) ?_ e z oq) (hF.put z oq hb) hcs hl
  funext j
  by_cases hj : j = i.toNatClampNeg
  · simp [aV, updV, hL_wL, up1, nrA, hj]
  · simp [aV, updV, hL_wL, up1, hj]
/-- what may be laid into an array of E -/
def okAny (Γ : Ga) (G : Ge) (σ : Hp) (ks : List Nat) (E : String) : Prop := ∀ (H : Heap), Wd Γ σ H → ∀ q, ks.contains (hK σ q) = true → va_Any E (geS G) H q
theorem okAny.no {E : String} : okAny Γ G σ [] E := fun _ _ _ h => by cases h
theorem okAny.obj (hG : Gk Γ G own cc F L rt0) {k : Nat} {ks : List Nat} {C E : String} {T : u_T} {N : Nat} (hc : vwAll[k - 1]? = some (C, T, N)) (h0 : 0 < k ∧ k < 40) (hE : C = E ∨ Cond.castable C E ∈ lw_tbl) (rest : okAny Γ G σ ks E) : okAny Γ G σ (k :: ks) E := by
  intro H hW q h
  rw [List.contains_cons, Bool.or_eq_true] at h
  rcases h with h | h
  · have hk : hK σ q = k := by simpa using h
    obtain ⟨r, cell, q0, q1, q2, q3, q4, -⟩ := hW.obj (q := q) (k := k) (by omega) h0.1 h0.2
    cases hc.symm.trans q0
    obtain ⟨hS, hfc, kC, hkC, hkind⟩ := hG.vk.1 _ _ hc
    refine ⟨cell, q1, q4, ⟨kC, by rw [q2]; exact hkC⟩, fun comp hcomp => ?_⟩
    rw [q2]
    rcases hE with rfl | hE
    · cases hfc.symm.trans hcomp; exact va_asg _ _
    · obtain ⟨c0, t0, f1, f2, f3⟩ := Cond.castable_spec (va_Nw.use (A := #[]) rfl (hG.nw hE rfl fun hW hZ => va_Nw.warmC hW hZ))
      cases hfc.symm.trans f1
      cases hcomp.symm.trans f2
      exact f3
  · exact rest H hW q h
theorem v_aast (hG : Gk Γ G own cc F L rt0) {k : Nat} {ks : List Nat} {E : String} {r x : Option Nat} {i : Int32} {g : Unit → Mr β} (h0 : 46 ≤ k ∧ k < 52) (hE : tyA k = .object E) (hks : okAny Γ G σ ks E) (hd : decode cc pc = .ok (.aastore, 1))
    (kk : ∀ σ1, VM Γ G QB (g ()) σ1 (pc + 1) lv st) : VM Γ G QB (bd (sR k ks r i x) g) σ pc lv (va_rf x :: .int i :: va_rf r :: st) := by
  intro y σ' hm hr H locs cells slots ls hW hF hcs hl
  obtain ⟨h1, h2⟩ := run_wr_inv hm
  rw [Bool.and_eq_true] at h1
  obtain ⟨q, rfl, hk, hin⟩ := isA_ok h1.1
  obtain ⟨hb, hq⟩ := hW.arrW hk (by omega) (by omega)
  have hz : (arrV (gaA Γ k) (hN σ q) (aV σ q k)).slots.size = hN σ q := arrV_size _ _ _
  have hK2 := hG.vk.2 _ _ (tysAt k (by omega) (by omega))
  have hv : ∀ x : Option Nat, aV (hwR σ q (up1 (hR σ q) i.toNatClampNeg x)) q k = updV (aV σ q k) i.toNatClampNeg (va_rf x) := by
    intro x
    rw [aV_ref h0.1, aV_ref h0.1]
    funext j
    unfold updV
    by_cases hj : j = i.toNatClampNeg
    · simp [hR_wR, up1, hj]
    · simp [hR_wR, up1, hj]
  cases x with
  | none =>
    refine va_WaastN (C := E) hG.exec hG.bytes hq (by rw [← hE]; exact hK2.1 _ _) (fun z => by cases z) (by rw [hz]; exact hin) rfl rfl hd fun H' e z oq => ?_
    exact kk _ y σ' h2 hr H' _ cells slots ls (hW.putA (j := i.toNatClampNeg) (v := .null) hk (by omega) hb rfl (fun p hp => ⟨rfl, up1_n _ _ hp, rfl⟩) (hv none) e z oq) (hF.put z oq hb) hcs hl
  | some w =>
    obtain ⟨cellV, g1, g3, ⟨kC, hkC⟩, hasg⟩ := hks H hW w h1.2
    have hRA := hK2.2
    rw [hE] at hRA
    obtain ⟨kA, comp, k1, k2, k3, -⟩ := hRA
    obtain ⟨kE, hkE, -⟩ := Vm.findClass_spec k3
    refine W.aast hG.exec hG.bytes hq (fun q h => by cases h) (fun h => by cases h) k1 k2 rfl hkE ⟨fun q => hin (Or.inl q), by rw [hz]; exact Nat.not_le.mp fun q => hin (Or.inr q)⟩ g1 (fun q h => by rw [h] at g3; cases g3) hkC (hasg _ k3) rfl rfl hd fun H' e z oq => ?_
    exact kk _ y σ' h2 hr H' _ cells slots ls (hW.putA (j := i.toNatClampNeg) (v := .ref w) hk (by omega) hb rfl (fun p hp => ⟨rfl, up1_n _ _ hp, rfl⟩) (hv (some w)) e z oq) (hF.put z oq hb) hcs hl
/-! new cells -/
theorem v_nO (hG : Gk Γ G own cc F L rt0) {k N : Nat} {g : Nat → Mr β} {C : String} {T : u_T} {index : Nat} (hc : vwAll[k - 1]? = some (C, T, N)) (h0 : 0 < k ∧ k < 40) (hin : ∀ w ∈ u_ws C T N, w ∈ lw_all) (ty0 : Nat → FieldType) (hty : ∀ k, k < N → parseFieldDescriptor (T k).2.2.1 = some (ty0 k)) (hdf : ∀ j, j < N → defaultValue (ty0 j) = if fRf k j = true then Value.null else Value.int 0)
    (hcl : Cond.classLink own index C ∈ lw_all) (hinst : Cond.instantiable C N ∈ lw_all) (hini : Cond.initialized C ∈ lw_all) (hd : decode cc pc = .ok (.new index, 3))
    (kk : ∀ q σ1, VM Γ G QB (g q) σ1 (pc + 3) lv (.ref q :: st)) : VM Γ G QB (bd (nO k N) g) σ pc lv st := by
  intro y σ' hm hr H locs cells slots ls hW hF hcs hl
  obtain ⟨-, h2⟩ := run_wr_inv hm
  have hle := run_le h2
  have l1 := hle.1
  have l2 := hle.2.1
  rw [hSz_new] at l1
  rw [hSl_new] at l2
  have hKn := hG.vk.1 _ _ hc
  refine W.newcK hG.exec hG.bytes hG.own (hG.hts _ hcl) (hG.hts _ hinst) (hG.hts _ hini) rfl hd (show _ ≤ (geR G).cells by omega) (show _ ≤ (geR G).slots by omega) hKn.2.1 rfl fun H1 kC hkC e1 z1 o1 => ?_
  rw [← hW.1]
  refine kk _ _ y σ' h2 hr H1 locs (cells + 1) (slots + N) ls (hW.mk z1 o1 (fun _ => Or.inl ⟨by rw [hK_new, hW.1, up1_s]; exact h0.1, by rw [hK_new, hW.1, up1_s]; exact h0.2, by rw [← hW.1]; exact hW.2.1, (C, T, N), by rw [hK_new, hW.1, up1_s]; exact hc, ?_⟩)) (hF.mk hG (by omega) o1) (by rw [hSz_new, hSl_new]; omega) hl
  rw [hK_new, hW.1, up1_s]
  refine (u_born ty0 hG.hts hin hKn hkC e1 hty).to (fun j hj => ?_)
  rw [hdf j hj]
  unfold oV
  rw [hR_new, hI_new, hW.1, up1_s, up1_s]
  rfl
theorem aV_new {k : Nat} (q : Nat) (h : q = hSz σ) (n sl : Nat) (fI : Nat → Int32) (fR : Nat → Option Nat) : aV (hNew σ k n sl fI fR) q k = fun j => if k < 44 then .int (fI j) else if k = 44 then .long 0 else if k = 45 then .double 0 else va_rf (fR j) := by
  subst h
  funext j
  unfold aV
  rw [hI_new, hR_new, hL_new, up1_s, up1_s, up1_s]
  rfl
theorem v_nA (hG : Gk Γ G own cc F L rt0) {k : Nat} {n : Int32} {g : Nat → Mr β} {atype : ArrayType} (h0 : 41 ≤ k ∧ k < 46) (hat : newarray.typeOf atype = tyA k) (harr : Cond.arrayClass (newarray.typeOf atype) ∈ lw_all) (hd : decode cc pc = .ok (.newarray atype, 2))
    (kk : ∀ q σ1, VM Γ G QB (g q) σ1 (pc + 2) lv (.ref q :: st)) : VM Γ G QB (bd (nA k n) g) σ pc lv (.int n :: st) := by
  intro y σ' hm hr H locs cells slots ls hW hF hcs hl
  obtain ⟨h1, h2⟩ := run_wr_inv hm
  obtain ⟨hn, hN⟩ := of_decide_eq_true h1
  have hle := run_le h2
  have l1 := hle.1
  have l2 := hle.2.1
  rw [hSz_new] at l1
  rw [hSl_new] at l2
  have hcb : componentBytes (newarray.typeOf atype) ≤ 8 := by cases atype <;> decide
  have hbytes : n.toNatClampNeg * componentBytes (newarray.typeOf atype) ≤ 536870912 := Nat.le_trans (Nat.mul_le_mul hN hcb) (by decide)
  refine va_newaK hG.exec hG.bytes (hG.hts _ harr) rfl hd rfl hn rfl hbytes (show _ ≤ (geR G).cells by omega) (show _ ≤ (geR G).slots by omega) rfl fun H1 cA e1 z1 o1 hAr hNm => ?_
  have hcA : cA = gaA Γ k := by
    have hRA := (hG.vk.2 _ _ (tysAt k (by omega) (by omega))).2
    rw [← hat] at hRA
    have hRA : (geS G).vm.findClass ("[" ++ (newarray.typeOf atype).toString) = some (gaA Γ k) := by cases atype <;> exact hRA
    exact Option.some.inj (hNm.symm.trans hRA)
  rw [← hW.1]
  refine kk _ _ y σ' h2 hr H1 locs (cells + 1) (slots + n.toNatClampNeg) ls (hW.mk z1 o1 (fun _ => Or.inr (Or.inl ⟨by rw [hK_new, hW.1, up1_s]; exact h0.1, by rw [hK_new, hW.1, up1_s]; omega, by rw [← hW.1]; exact hW.2.1, ?_⟩))) (hF.mk hG (by omega) o1) (by rw [hSz_new, hSl_new]; omega) hl
  unfold wcA
  rw [hK_new, hN_new, hW.1, up1_s, up1_s, ← hcA, aV_new _ hW.1.symm, e1, hat]
  congr 2
  funext j
  rcases (show k = 41 ∨ k = 42 ∨ k = 43 ∨ k = 44 ∨ k = 45 by omega) with rfl | rfl | rfl | rfl | rfl <;> rfl
theorem v_nAr (hG : Gk Γ G own cc F L rt0) {k : Nat} {n : Int32} {g : Nat → Mr β} {E : String} {index : Nat} (h0 : 46 ≤ k ∧ k < 52) (hE : tyA k = .object E) (hcl : Cond.classLink own index E ∈ lw_all) (hover : Cond.arrayOver (.object E) ∈ lw_tbl) (hd : decode cc pc = .ok (.anewarray index, 3))
    (kk : ∀ q σ1, VM Γ G QB (g q) σ1 (pc + 3) lv (.ref q :: st)) : VM Γ G QB (bd (nA k n) g) σ pc lv (.int n :: st) := by
  intro y σ' hm hr H locs cells slots ls hW hF hcs hl
  obtain ⟨h1, h2⟩ := run_wr_inv hm
  obtain ⟨hn, hN⟩ := of_decide_eq_true h1
  have hle := run_le h2
  have l1 := hle.1
  have l2 := hle.2.1
  rw [hSz_new] at l1
  rw [hSl_new] at l2
  have hov : va_AO E (geS G) := by
    obtain ⟨a0, h⟩ := hG.ok.1
    exact va_AO.moved hG.cx.1.alike (va_AO.of (h _ hover))
  refine W.anew hG.exec hG.bytes hG.own (hG.hts _ hcl) (va_AO.use hov) rfl hd rfl hn (by omega) (show _ ≤ (geR G).cells by omega) (show _ ≤ (geR G).slots by omega) fun cA kA comp f1 f2 f3 f4 => ?_
  have hcA : cA = gaA Γ k := by
    have hRA := (hG.vk.2 _ _ (tysAt k (by omega) (by omega))).2
    rw [hE] at hRA
    obtain ⟨kA', comp', -, -, -, k4⟩ := hRA
    exact Option.some.inj (f1.symm.trans k4)
  generalize hH1 : H.push ({ cls := cA, slots := Array.replicate n.toNatClampNeg .null, vm := .none } : Cell) = H1
  have z1 : H1.size = H.size + 1 := by rw [← hH1, Array.size_push]
  have e1 : H1[H.size]? = some (arrV cA n.toNatClampNeg (fun _ => .null)) := by rw [← hH1, Array.getElem?_push_size, ← arrV_new]
  have o1 : ∀ q : Nat, q < H.size → H1[q]? = H[q]? := fun q hq => by rw [← hH1, Array.getElem?_push, if_neg (Nat.ne_of_lt hq)]
  rw [← hW.1]
  refine kk _ _ y σ' h2 hr H1 locs (cells + 1) (slots + n.toNatClampNeg) ls (hW.mk z1 o1 (fun _ => Or.inr (Or.inl ⟨by rw [hK_new, hW.1, up1_s]; omega, by rw [hK_new, hW.1, up1_s]; omega, by rw [← hW.1]; exact hW.2.1, ?_⟩))) (hF.mk hG (by omega) o1) (by rw [hSz_new, hSl_new]; omega) hl
  unfold wcA
  rw [hK_new, hN_new, hW.1, up1_s, up1_s, ← hcA, aV_new _ hW.1.symm, e1]
  congr 2
  funext j
  rw [if_neg (by omega), if_neg (by omega), if_neg (by omega)]
  rfl
/-! calls -/
theorem VM.call (hG : Gk Γ G own cc F L rt0) {α : Type} {f : Mr α} {k : α → Mr β} {ev : α → Option Value} {args : Array Value} {rest : List Value}
    (hrun : ∀ (x : α) (σ1 : Hp), run f σ = some (x, σ1) → ∀ (H : Heap) (locs : List Loc) (cells slots : Nat) (ls : Array Slot), Wd Γ σ H → Fr Γ G H locs → ls.size = geN G → cells + (hSz σ1 - hSz σ) ≤ (geR G).cells ∧ slots + (hSl σ1 - hSl σ) ≤ (geR G).slots →
      va_Run G.1.1 Γ.1.2 G.1.2.1 G.1.2.2 G.2.1.1 G.2.1.2.1 G.2.1.2.2.1 G.2.1.2.2.2 G.2.2.1.1 G.2.2.1.2 H locs cells slots (hSz σ1 - hSz σ) (hSl σ1 - hSl σ) (F0 (geM G) pc ls st) rest (QR Γ ev x σ1 args) (fun q => gaB Γ ≤ q))
    (kk : ∀ x σ1, VM Γ G QB (k x) σ1 (pc + 3) lv ((ev x).toList ++ rest)) : VM Γ G QB (bd f k) σ pc lv st := by
  intro y σ' hm hr H locs cells slots ls hW hF hcs hl
  obtain ⟨x, σ1, h1, h2⟩ := run_bd_inv hm
  have g1 := run_le h1
  have g2 := run_le h2
  have a1 := g1.1
  have a2 := g1.2.1
  have b1 := g2.1
  have b2 := g2.2.1
  intro T hT X
  obtain ⟨v, st₀, t, T', L', e0, X', hL', e1, e2, ⟨hv, hW1, hold, hsz⟩, hgo⟩ := hrun x σ1 h1 H locs cells slots ls hW hF hl.1 (by omega) T hT X
  cases hv
  rw [e0] at hold hsz
  have hW1 : Wd Γ σ1 T'.heap := by rw [e1]; exact hW1
  obtain ⟨t2, c1, c2⟩ := kk x σ1 y σ' h2 hr T'.heap (locs ++ L') _ _ ls hW1 ⟨fun q hq => by rw [e1, hold q hq]; exact hF.1 q hq, Nat.le_trans hF.2.1 (by rw [e1]; exact hsz), fun q hq => by
    rcases List.mem_append.mp hq with h | h
    · exact hF.2.2 q h
    · exact hL' q h⟩ (by omega) hl T' rfl X'
  exact ⟨t2, hgo t2 c1, c2⟩
theorem Pc_blind {σ : Hp} {av : List Value} : FrameBlind (va_Pc av (fun U => Wd Γ σ U.heap ∧ Cx Γ U)) := fun _ _ _ _ h => ⟨h.1, h.2.1, h.2.2.1, h.2.2.2⟩
theorem Pc_of (hG : Gk Γ G own cc F L rt0) {av : List Value} {H : Heap} {locs : List Loc} (hW : Wd Γ σ H) (hF : Fr Γ G H locs) (U : State) (hU : U.heap = H) (hw : (geS G).WarmedH U.vm) : va_Pc av (fun U => Wd Γ σ U.heap ∧ Cx Γ U) av.toArray U :=
  ⟨rfl, by rw [hU]; exact hW, hG.cx.warm hw (fun q hq => by rw [hU]; exact hF.1 q hq)⟩
theorem VM.callV (hG : Gk Γ G own cc F L rt0) {α : Type} {f : Nat → Mr α} {k : α → Mr β} {ev : α → Option Value} {kd : Nat} {C : String} {T : u_T} {N : Nat} {y : MethodName} {b : ByteArray} {nl F' L' idx : Nat} {ret : Option FieldType} {r : Option Nat} (As : List Value) {rest : List Value} (n : Nat)
    (hC : ∀ h, Ct Γ y (ws_ y b nl ret) F' L' ev (f h) (.ref h :: As)) (hw : GoodIn lw_all (wsV own idx C y (ws_ y b nl ret))) (hc : vwAll[kd - 1]? = some (C, T, N)) (h0 : 0 < kd ∧ kd < 40)
    (hd2 : y.cls = C ∧ y.cls ≠ "java/lang/invoke/MethodHandle" ∧ y.cls ≠ "java/lang/invoke/VarHandle" ∧ (parseMethodDescriptor y.desc).map (fun d => d.parameters.length) = some n) (hRm : F' + 1 ≤ F ∧ 8 + (nl + 11) + L' ≤ L) (hn : As.length = n) (hst : st = As.reverse ++ va_rf r :: rest) (hrest : (rest.map fun v => v.category).sum ≤ 8) (hd : decode cc pc = .ok (.invokevirtual idx, 3))
    (kk : ∀ x σ1, VM Γ G QB (k x) σ1 (pc + 3) lv ((ev x).toList ++ rest)) : VM Γ G QB (bd (rc kd r) fun h => bd (f h) k) σ pc lv st := by
  intro y' σ' hm
  obtain ⟨h, e1, e2⟩ := run_rd_inv hm
  obtain ⟨q, rfl, e3⟩ := Option.bind_eq_some_iff.mp e1
  split at e3
  · rename_i hk
    cases e3
    refine VM.call hG (ev := ev) (rest := rest) (args := (Value.ref h :: As).toArray) (fun x σ1 h1 H locs cells slots ls hW hF hls hf => ?_) kk y' σ' e2
    have hR1 : F' + 1 ≤ G.1.2.2.frames ∧ 8 + (nl + 11) + L' ≤ G.1.2.2.locals := by
      have e1 := hG.frames
      have e2 := hG.locals
      rw [← e1, ← e2] at hRm
      exact hRm
    refine va_runV (As := As) (rest := rest) ⟨hG.exec, hG.bytes, hG.maxL, hG.own, hG.hts⟩ (hC h σ x σ1 h1) (cwV n hG.hts hw rfl rfl rfl hd2 hR1) ⟨Pc_blind, ?_, fun U hU hw2 => Pc_of hG hW hF U hU hw2⟩ rfl hn hls hst (lv_room hrest) hd hf
    obtain ⟨r0, cell, q0, q1, q2, q3, q4, -⟩ := hW.obj hk h0.1 h0.2
    cases hc.symm.trans q0
    exact ⟨cell, q1, q4, by rw [q2]; exact (hG.vk.1 _ _ hc).2.1⟩
  · cases e3
theorem VM.callS (hG : Gk Γ G own cc F L rt0) {α : Type} {f : Mr α} {k : α → Mr β} {ev : α → Option Value} {y : MethodName} {b : ByteArray} {nl F' L' idx : Nat} {ret : Option FieldType} (As : List Value) {rest : List Value} (n : Nat)
    (hC : Ct Γ y (ws_ y b nl ret) F' L' ev f As) (hw : GoodIn lw_all (va_wsS own idx y (ws_ y b nl ret)))
    (hd2 : y.cls ≠ "java/lang/invoke/MethodHandle" ∧ y.cls ≠ "java/lang/invoke/VarHandle" ∧ (parseMethodDescriptor y.desc).map (fun d => d.parameters.length) = some n) (hRm : F' + 1 ≤ F ∧ 8 + (nl + 11) + L' ≤ L) (hn : As.length = n) (hst : st = As.reverse ++ rest) (hrest : (rest.map fun v => v.category).sum ≤ 8) (hd : decode cc pc = .ok (.invokestatic idx, 3))
    (kk : ∀ x σ1, VM Γ G QB (k x) σ1 (pc + 3) lv ((ev x).toList ++ rest)) : VM Γ G QB (bd f k) σ pc lv st := by
  refine VM.call hG (ev := ev) (rest := rest) (args := As.toArray) (fun x σ1 h1 H locs cells slots ls hW hF hls hf => ?_) kk
  have hR1 : F' + 1 ≤ G.1.2.2.frames ∧ 8 + (nl + 11) + L' ≤ G.1.2.2.locals := by
    have e1 := hG.frames
    have e2 := hG.locals
    rw [← e1, ← e2] at hRm
    exact hRm
  exact va_runS (As := As) (rest := rest) ⟨hG.exec, hG.bytes, hG.maxL, hG.own, hG.hts⟩ (hC σ x σ1 h1) (va_cwS n hG.hts hw rfl rfl rfl hd2 hR1) ⟨Pc_blind, fun U hU hw2 => Pc_of hG hW hF U hU hw2⟩ rfl hn hls hst (lv_room hrest) hd hf
theorem VM.callI (hG : Gk Γ G own cc F L rt0) {α : Type} {f : Nat → Mr α} {k : α → Mr β} {ev : α → Option Value} {y : MethodName} {b : ByteArray} {nl F' L' idx h : Nat} (As : List Value) {rest : List Value} (n : Nat)
    (hC : ∀ h, Ct Γ y (ws_ y b nl none) F' L' ev (f h) (.ref h :: As)) (hm1 : Cond.code y b nl none ∈ lw_all) (hini : Cond.initialized y.cls ∈ lw_all) (hlk : Cond.methodLink own idx y ∈ lw_all) (hin : Cond.instanceMethod y ∈ lw_all) (hy1 : y.name = "<init>")
    (hd2 : y.cls ≠ "java/lang/invoke/MethodHandle" ∧ y.cls ≠ "java/lang/invoke/VarHandle" ∧ (parseMethodDescriptor y.desc).map (fun d => d.parameters.length) = some n) (hRm : F' + 1 ≤ F ∧ 8 + (nl + 11) + L' ≤ L) (hn : As.length = n) (hst : st = As.reverse ++ .ref h :: rest) (hrest : (rest.map fun v => v.category).sum ≤ 8) (hd : decode cc pc = .ok (.invokespecial idx, 3))
    (kk : ∀ x σ1, VM Γ G QB (k x) σ1 (pc + 3) lv ((ev x).toList ++ rest)) : VM Γ G QB (bd (f h) k) σ pc lv st := by
  refine VM.call hG (ev := ev) (rest := rest) (args := (Value.ref h :: As).toArray) (fun x σ1 h1 H locs cells slots ls hW hF hls hf => ?_) kk
  have hR1 : F' + 1 ≤ G.1.2.2.frames ∧ 8 + (nl + 11) + L' ≤ G.1.2.2.locals := by
    have e1 := hG.frames
    have e2 := hG.locals
    rw [← e1, ← e2] at hRm
    exact hRm
  exact va_runI (As := As) (rest := rest) ⟨hG.exec, hG.bytes, hG.maxL, hG.own, hG.hts⟩ (hC h σ x σ1 h1) (cwI n hG.hts (lw_meth hm1) rfl rfl rfl (hG.hts _ hini) (hG.hts _ hlk) (hG.hts _ hin) hy1 hd2 hR1) ⟨Pc_blind, fun U hU hw2 => Pc_of hG hW hF U hU hw2⟩ rfl hn hls hst (lv_room hrest) hd hf
theorem v_objInit (hG : Gk Γ G own cc F L rt0) {h idx : Nat} (hlk : Cond.methodLink own idx objectInit ∈ lw_all) (hin : Cond.instanceMethod objectInit ∈ lw_all) (hcode : Cond.code objectInit ⟨#[0xb1]⟩ 1 none ∈ lw_all) (hf : 1 ≤ F) (hlo : (st.map fun v => v.category).sum + 12 ≤ L) (hd : decode cc pc = .ok (.invokespecial idx, 3))
    (kk : VM Γ G QB mm σ (pc + 3) lv st) : VM Γ G QB mm σ pc lv (.ref h :: st) := by
  intro y σ' hm hr H locs cells slots ls hW hF hcs hl
  refine W.objInit hG.exec hG.bytes hG.own (hG.hts _ hlk) (hG.hts _ hin) (hG.hts _ hcode) rfl (by rw [hG.maxL]; exact hl.1) rfl hd ?_ ?_ (kk y σ' hm hr H locs cells slots ls hW hF hcs hl)
  · have e := hG.frames
    rw [← e] at hf
    exact hf
  · have e := hG.locals
    rw [← e] at hlo
    show 2 * 0 + _ + 12 ≤ (geR G).locals
    omega
/-- a return of a small type: what it keeps must be itself -/
theorem v_rz (hG : Gk Γ G own cc F L rt0) {t : Nat} {x : Int32} {ty : FieldType} (hr0 : rt0 = some ty) (ht : tyN t = ty) (hd : decode cc pc = .ok (.ireturn, 1)) : VM Γ G (QN Γ G evI) (rz t x) σ pc lv [.int x] := by
  intro y σ' hm
  have h1 : run (bd (rd fun _ => if nrk t x = true then some x else none) (fun x => rt x)) σ = some (y, σ') := by
    unfold rz at hm
    rw [run_rd] at hm
    rw [run_bd, run_rd]
    by_cases h : nrk t x = true
    · rw [if_pos h] at hm ⊢; exact hm
    · rw [if_neg h] at hm; cases hm
  obtain ⟨z, h2, h3⟩ := run_rd_inv h1
  split at h2
  · rename_i hn
    cases h2
    refine v_zret hG hr0 ?_ hd y σ' h3
    rw [← ht]
    exact nrk_ok hn
  · cases h2
theorem v_callVi (hG : Gk Γ G own cc F L rt0) {f : Nat → Mr Int32} {k : Int32 → Mr β} {kd : Nat} {C : String} {T : u_T} {N : Nat} {y : MethodName} {b : ByteArray} {nl F' L' idx : Nat} {ret : Option FieldType} {r : Option Nat} (As : List Value) {rest : List Value} (n : Nat)
    (hC : ∀ h, Ct Γ y (ws_ y b nl ret) F' L' evI (f h) (.ref h :: As)) (hw : GoodIn lw_all (wsV own idx C y (ws_ y b nl ret))) (hc : vwAll[kd - 1]? = some (C, T, N)) (h0 : 0 < kd ∧ kd < 40)
    (hd2 : y.cls = C ∧ y.cls ≠ "java/lang/invoke/MethodHandle" ∧ y.cls ≠ "java/lang/invoke/VarHandle" ∧ (parseMethodDescriptor y.desc).map (fun d => d.parameters.length) = some n) (hRm : F' + 1 ≤ F ∧ 8 + (nl + 11) + L' ≤ L) (hn : As.length = n) (hst : st = As.reverse ++ va_rf r :: rest) (hrest : (rest.map fun v => v.category).sum ≤ 8) (hd : decode cc pc = .ok (.invokevirtual idx, 3))
    (kk : ∀ x σ1, VM Γ G QB (k x) σ1 (pc + 3) lv (.int x :: rest)) : VM Γ G QB (bd (rc kd r) fun h => bd (f h) k) σ pc lv st := VM.callV hG As n hC hw hc h0 hd2 hRm hn hst hrest hd kk
theorem v_callSi (hG : Gk Γ G own cc F L rt0) {f : Mr Int32} {k : Int32 → Mr β} {y : MethodName} {b : ByteArray} {nl F' L' idx : Nat} {ret : Option FieldType} (As : List Value) {rest : List Value} (n : Nat)
    (hC : Ct Γ y (ws_ y b nl ret) F' L' evI f As) (hw : GoodIn lw_all (va_wsS own idx y (ws_ y b nl ret)))
    (hd2 : y.cls ≠ "java/lang/invoke/MethodHandle" ∧ y.cls ≠ "java/lang/invoke/VarHandle" ∧ (parseMethodDescriptor y.desc).map (fun d => d.parameters.length) = some n) (hRm : F' + 1 ≤ F ∧ 8 + (nl + 11) + L' ≤ L) (hn : As.length = n) (hst : st = As.reverse ++ rest) (hrest : (rest.map fun v => v.category).sum ≤ 8) (hd : decode cc pc = .ok (.invokestatic idx, 3))
    (kk : ∀ x σ1, VM Γ G QB (k x) σ1 (pc + 3) lv (.int x :: rest)) : VM Γ G QB (bd f k) σ pc lv st := VM.callS hG As n hC hw hd2 hRm hn hst hrest hd kk
theorem v_callVu (hG : Gk Γ G own cc F L rt0) {f : Nat → Mr Unit} {k : Unit → Mr β} {kd : Nat} {C : String} {T : u_T} {N : Nat} {y : MethodName} {b : ByteArray} {nl F' L' idx : Nat} {ret : Option FieldType} {r : Option Nat} (As : List Value) {rest : List Value} (n : Nat)
    (hC : ∀ h, Ct Γ y (ws_ y b nl ret) F' L' evU (f h) (.ref h :: As)) (hw : GoodIn lw_all (wsV own idx C y (ws_ y b nl ret))) (hc : vwAll[kd - 1]? = some (C, T, N)) (h0 : 0 < kd ∧ kd < 40)
    (hd2 : y.cls = C ∧ y.cls ≠ "java/lang/invoke/MethodHandle" ∧ y.cls ≠ "java/lang/invoke/VarHandle" ∧ (parseMethodDescriptor y.desc).map (fun d => d.parameters.length) = some n) (hRm : F' + 1 ≤ F ∧ 8 + (nl + 11) + L' ≤ L) (hn : As.length = n) (hst : st = As.reverse ++ va_rf r :: rest) (hrest : (rest.map fun v => v.category).sum ≤ 8) (hd : decode cc pc = .ok (.invokevirtual idx, 3))
    (kk : ∀ x σ1, VM Γ G QB (k x) σ1 (pc + 3) lv (rest)) : VM Γ G QB (bd (rc kd r) fun h => bd (f h) k) σ pc lv st := VM.callV hG As n hC hw hc h0 hd2 hRm hn hst hrest hd kk
theorem v_callSu (hG : Gk Γ G own cc F L rt0) {f : Mr Unit} {k : Unit → Mr β} {y : MethodName} {b : ByteArray} {nl F' L' idx : Nat} {ret : Option FieldType} (As : List Value) {rest : List Value} (n : Nat)
    (hC : Ct Γ y (ws_ y b nl ret) F' L' evU f As) (hw : GoodIn lw_all (va_wsS own idx y (ws_ y b nl ret)))
    (hd2 : y.cls ≠ "java/lang/invoke/MethodHandle" ∧ y.cls ≠ "java/lang/invoke/VarHandle" ∧ (parseMethodDescriptor y.desc).map (fun d => d.parameters.length) = some n) (hRm : F' + 1 ≤ F ∧ 8 + (nl + 11) + L' ≤ L) (hn : As.length = n) (hst : st = As.reverse ++ rest) (hrest : (rest.map fun v => v.category).sum ≤ 8) (hd : decode cc pc = .ok (.invokestatic idx, 3))
    (kk : ∀ x σ1, VM Γ G QB (k x) σ1 (pc + 3) lv (rest)) : VM Γ G QB (bd f k) σ pc lv st := VM.callS hG As n hC hw hd2 hRm hn hst hrest hd kk
theorem v_callVr (hG : Gk Γ G own cc F L rt0) {f : Nat → Mr (Option Nat)} {k : (Option Nat) → Mr β} {kd : Nat} {C : String} {T : u_T} {N : Nat} {y : MethodName} {b : ByteArray} {nl F' L' idx : Nat} {ret : Option FieldType} {r : Option Nat} (As : List Value) {rest : List Value} (n : Nat)
    (hC : ∀ h, Ct Γ y (ws_ y b nl ret) F' L' evR (f h) (.ref h :: As)) (hw : GoodIn lw_all (wsV own idx C y (ws_ y b nl ret))) (hc : vwAll[kd - 1]? = some (C, T, N)) (h0 : 0 < kd ∧ kd < 40)
    (hd2 : y.cls = C ∧ y.cls ≠ "java/lang/invoke/MethodHandle" ∧ y.cls ≠ "java/lang/invoke/VarHandle" ∧ (parseMethodDescriptor y.desc).map (fun d => d.parameters.length) = some n) (hRm : F' + 1 ≤ F ∧ 8 + (nl + 11) + L' ≤ L) (hn : As.length = n) (hst : st = As.reverse ++ va_rf r :: rest) (hrest : (rest.map fun v => v.category).sum ≤ 8) (hd : decode cc pc = .ok (.invokevirtual idx, 3))
    (kk : ∀ x σ1, VM Γ G QB (k x) σ1 (pc + 3) lv (va_rf x :: rest)) : VM Γ G QB (bd (rc kd r) fun h => bd (f h) k) σ pc lv st := VM.callV hG As n hC hw hc h0 hd2 hRm hn hst hrest hd kk
theorem v_callSr (hG : Gk Γ G own cc F L rt0) {f : Mr (Option Nat)} {k : (Option Nat) → Mr β} {y : MethodName} {b : ByteArray} {nl F' L' idx : Nat} {ret : Option FieldType} (As : List Value) {rest : List Value} (n : Nat)
    (hC : Ct Γ y (ws_ y b nl ret) F' L' evR f As) (hw : GoodIn lw_all (va_wsS own idx y (ws_ y b nl ret)))
    (hd2 : y.cls ≠ "java/lang/invoke/MethodHandle" ∧ y.cls ≠ "java/lang/invoke/VarHandle" ∧ (parseMethodDescriptor y.desc).map (fun d => d.parameters.length) = some n) (hRm : F' + 1 ≤ F ∧ 8 + (nl + 11) + L' ≤ L) (hn : As.length = n) (hst : st = As.reverse ++ rest) (hrest : (rest.map fun v => v.category).sum ≤ 8) (hd : decode cc pc = .ok (.invokestatic idx, 3))
    (kk : ∀ x σ1, VM Γ G QB (k x) σ1 (pc + 3) lv (va_rf x :: rest)) : VM Γ G QB (bd f k) σ pc lv st := VM.callS hG As n hC hw hd2 hRm hn hst hrest hd kk
theorem v_callVf (hG : Gk Γ G own cc F L rt0) {f : Nat → Mr UInt32} {k : UInt32 → Mr β} {kd : Nat} {C : String} {T : u_T} {N : Nat} {y : MethodName} {b : ByteArray} {nl F' L' idx : Nat} {ret : Option FieldType} {r : Option Nat} (As : List Value) {rest : List Value} (n : Nat)
    (hC : ∀ h, Ct Γ y (ws_ y b nl ret) F' L' evF (f h) (.ref h :: As)) (hw : GoodIn lw_all (wsV own idx C y (ws_ y b nl ret))) (hc : vwAll[kd - 1]? = some (C, T, N)) (h0 : 0 < kd ∧ kd < 40)
    (hd2 : y.cls = C ∧ y.cls ≠ "java/lang/invoke/MethodHandle" ∧ y.cls ≠ "java/lang/invoke/VarHandle" ∧ (parseMethodDescriptor y.desc).map (fun d => d.parameters.length) = some n) (hRm : F' + 1 ≤ F ∧ 8 + (nl + 11) + L' ≤ L) (hn : As.length = n) (hst : st = As.reverse ++ va_rf r :: rest) (hrest : (rest.map fun v => v.category).sum ≤ 8) (hd : decode cc pc = .ok (.invokevirtual idx, 3))
    (kk : ∀ x σ1, VM Γ G QB (k x) σ1 (pc + 3) lv (.float x :: rest)) : VM Γ G QB (bd (rc kd r) fun h => bd (f h) k) σ pc lv st := VM.callV hG As n hC hw hc h0 hd2 hRm hn hst hrest hd kk
theorem v_callSf (hG : Gk Γ G own cc F L rt0) {f : Mr UInt32} {k : UInt32 → Mr β} {y : MethodName} {b : ByteArray} {nl F' L' idx : Nat} {ret : Option FieldType} (As : List Value) {rest : List Value} (n : Nat)
    (hC : Ct Γ y (ws_ y b nl ret) F' L' evF f As) (hw : GoodIn lw_all (va_wsS own idx y (ws_ y b nl ret)))
    (hd2 : y.cls ≠ "java/lang/invoke/MethodHandle" ∧ y.cls ≠ "java/lang/invoke/VarHandle" ∧ (parseMethodDescriptor y.desc).map (fun d => d.parameters.length) = some n) (hRm : F' + 1 ≤ F ∧ 8 + (nl + 11) + L' ≤ L) (hn : As.length = n) (hst : st = As.reverse ++ rest) (hrest : (rest.map fun v => v.category).sum ≤ 8) (hd : decode cc pc = .ok (.invokestatic idx, 3))
    (kk : ∀ x σ1, VM Γ G QB (k x) σ1 (pc + 3) lv (.float x :: rest)) : VM Γ G QB (bd f k) σ pc lv st := VM.callS hG As n hC hw hd2 hRm hn hst hrest hd kk
theorem v_callVd (hG : Gk Γ G own cc F L rt0) {f : Nat → Mr UInt64} {k : UInt64 → Mr β} {kd : Nat} {C : String} {T : u_T} {N : Nat} {y : MethodName} {b : ByteArray} {nl F' L' idx : Nat} {ret : Option FieldType} {r : Option Nat} (As : List Value) {rest : List Value} (n : Nat)
    (hC : ∀ h, Ct Γ y (ws_ y b nl ret) F' L' evD (f h) (.ref h :: As)) (hw : GoodIn lw_all (wsV own idx C y (ws_ y b nl ret))) (hc : vwAll[kd - 1]? = some (C, T, N)) (h0 : 0 < kd ∧ kd < 40)
    (hd2 : y.cls = C ∧ y.cls ≠ "java/lang/invoke/MethodHandle" ∧ y.cls ≠ "java/lang/invoke/VarHandle" ∧ (parseMethodDescriptor y.desc).map (fun d => d.parameters.length) = some n) (hRm : F' + 1 ≤ F ∧ 8 + (nl + 11) + L' ≤ L) (hn : As.length = n) (hst : st = As.reverse ++ va_rf r :: rest) (hrest : (rest.map fun v => v.category).sum ≤ 8) (hd : decode cc pc = .ok (.invokevirtual idx, 3))
    (kk : ∀ x σ1, VM Γ G QB (k x) σ1 (pc + 3) lv (.double x :: rest)) : VM Γ G QB (bd (rc kd r) fun h => bd (f h) k) σ pc lv st := VM.callV hG As n hC hw hc h0 hd2 hRm hn hst hrest hd kk
theorem v_callSd (hG : Gk Γ G own cc F L rt0) {f : Mr UInt64} {k : UInt64 → Mr β} {y : MethodName} {b : ByteArray} {nl F' L' idx : Nat} {ret : Option FieldType} (As : List Value) {rest : List Value} (n : Nat)
    (hC : Ct Γ y (ws_ y b nl ret) F' L' evD f As) (hw : GoodIn lw_all (va_wsS own idx y (ws_ y b nl ret)))
    (hd2 : y.cls ≠ "java/lang/invoke/MethodHandle" ∧ y.cls ≠ "java/lang/invoke/VarHandle" ∧ (parseMethodDescriptor y.desc).map (fun d => d.parameters.length) = some n) (hRm : F' + 1 ≤ F ∧ 8 + (nl + 11) + L' ≤ L) (hn : As.length = n) (hst : st = As.reverse ++ rest) (hrest : (rest.map fun v => v.category).sum ≤ 8) (hd : decode cc pc = .ok (.invokestatic idx, 3))
    (kk : ∀ x σ1, VM Γ G QB (k x) σ1 (pc + 3) lv (.double x :: rest)) : VM Γ G QB (bd f k) σ pc lv st := VM.callS hG As n hC hw hd2 hRm hn hst hrest hd kk
theorem v_idiv (hG : Gk Γ G own cc F L rt0) {x y : Int32} {g : Int32 → Mr β} (hd : decode cc pc = .ok (.idiv, 1)) (kk : ∀ z, VM Γ G QB (g z) σ (pc + 1) lv (.int z :: st)) : VM Γ G QB (bd (dv x y) g) σ pc lv (.int y :: .int x :: st) := by
  intro y' σ' hm hr H locs cells slots ls hW hF hcs hl
  obtain ⟨z, h1, h2⟩ := run_rd_inv hm
  split at h1
  · cases h1
  · rename_i hy
    cases h1
    exact lv_idiv hG.exec hG.bytes hd hy (kk _ y' σ' h2 hr H locs cells slots ls hW hF hcs hl)
theorem v_fdiv (hG : Gk Γ G own cc F L rt0) {x y : UInt32} {g : UInt32 → Mr β} (hd : decode cc pc = .ok (.fdiv, 1)) (kk : ∀ z, VM Γ G QB (g z) σ (pc + 1) lv (.float z :: st)) : VM Γ G QB (bd (fdv x y) g) σ pc lv (.float y :: .float x :: st) := by
  intro y' σ' hm hr H locs cells slots ls hW hF hcs hl
  obtain ⟨z, h1, h2⟩ := run_rd_inv hm
  split at h1
  · rename_i hy
    cases h1
    exact lv_fdiv hG.exec hG.bytes hd hy (kk _ y' σ' h2 hr H locs cells slots ls hW hF hcs hl)
  · cases h1
theorem v_ddiv (hG : Gk Γ G own cc F L rt0) {x y : UInt64} {g : UInt64 → Mr β} (hd : decode cc pc = .ok (.ddiv, 1)) (kk : ∀ z, VM Γ G QB (g z) σ (pc + 1) lv (.double z :: st)) : VM Γ G QB (bd (ddv x y) g) σ pc lv (.double y :: .double x :: st) := by
  intro y' σ' hm hr H locs cells slots ls hW hF hcs hl
  obtain ⟨z, h1, h2⟩ := run_rd_inv hm
  split at h1
  · rename_i hy
    cases h1
    exact lv_ddiv hG.exec hG.bytes hd hy (kk _ y' σ' h2 hr H locs cells slots ls hW hF hcs hl)
  · cases h1
theorem v_f2d (hG : Gk Γ G own cc F L rt0) {x : UInt32} {g : UInt64 → Mr β} (hd : decode cc pc = .ok (.f2d, 1)) (kk : ∀ z, VM Γ G QB (g z) σ (pc + 1) lv (.double z :: st)) : VM Γ G QB (bd (f2d x) g) σ pc lv (.float x :: st) := by
  intro y' σ' hm hr H locs cells slots ls hW hF hcs hl
  obtain ⟨z, h1, h2⟩ := run_rd_inv hm
  split at h1
  · rename_i hy
    cases h1
    exact lv_f2d hG.exec hG.bytes hd hy (kk _ y' σ' h2 hr H locs cells slots ls hW hF hcs hl)
  · cases h1
/-! casts -/
theorem Wd.recv (hG : Gk Γ G own cc F L rt0) {H : Heap} {q k : Nat} {C : String} {T : u_T} {N : Nat} (hW : Wd Γ σ H) (hk : hK σ q % 100 = k) (h0 : 0 < k ∧ k < 40) (hc : vwAll[k - 1]? = some (C, T, N)) : ∃ cell : Cell, H[q]? = some cell ∧ cell.vm.isStatics = false ∧ (geS G).vm.findClass C = some cell.cls := by
  obtain ⟨r, cell, q0, q1, q2, q3, q4, -⟩ := hW.obj hk h0.1 h0.2
  cases hc.symm.trans q0
  exact ⟨cell, q1, q4, by rw [q2]; exact (hG.vk.1 _ _ hc).2.1⟩
def okCast (Γ : Ga) (G : Ge) (ks : List Nat) (nm : String) : Prop := ∀ k, ks.contains k = true → ∃ (C : String) (T : u_T) (N : Nat), vwAll[k - 1]? = some (C, T, N) ∧ (0 < k ∧ k < 40) ∧ (C = nm ∨ va_Nw (.castable C nm) (geS G))
theorem okCast.no {nm : String} : okCast Γ G [] nm := fun _ h => by cases h
theorem okCast.obj (hG : Gk Γ G own cc F L rt0) {k : Nat} {ks : List Nat} {C nm : String} {T : u_T} {N : Nat} (hc : vwAll[k - 1]? = some (C, T, N)) (h0 : 0 < k ∧ k < 40) (hE : C = nm ∨ Cond.castable C nm ∈ lw_tbl) (rest : okCast Γ G ks nm) : okCast Γ G (k :: ks) nm := by
  intro k' h
  rw [List.contains_cons, Bool.or_eq_true] at h
  rcases h with h | h
  · have hk : k' = k := by simpa using h
    subst hk
    exact ⟨C, T, N, hc, h0, hE.imp id fun hE => hG.nw hE rfl fun hW hZ => va_Nw.warmC hW hZ⟩
  · exact rest k' h
theorem v_ca (hG : Gk Γ G own cc F L rt0) {ks : List Nat} {r : Option Nat} {nm : String} {index : Nat} {g : Unit → Mr β} (hks : okCast Γ G ks nm) (hlink : Cond.classLink own index nm ∈ lw_all) (hd : decode cc pc = .ok (.checkcast index, 3))
    (kk : VM Γ G QB (g ()) σ (pc + 3) lv (va_rf r :: st)) : VM Γ G QB (bd (ca ks r) g) σ pc lv (va_rf r :: st) := by
  intro y σ' hm hr H locs cells slots ls hW hF hcs hl
  obtain ⟨x, h1, h2⟩ := run_rd_inv hm
  have K := kk y σ' h2 hr H locs cells slots ls hW hF hcs hl
  cases r with
  | none => exact lv_castN hG.exec hG.bytes hd K
  | some q =>
    have h1 : (if ks.contains (hK σ q % 100) = true then some () else none) = some x := h1
    split at h1
    · rename_i hk
      obtain ⟨C, T, N, hc, h0, hE⟩ := hks _ hk
      have hrv := hW.recv hG rfl h0 hc
      rcases hE with rfl | hE
      · exact va_castS hG.exec hG.bytes hG.own (hG.hts _ hlink) (hG.vk.1 _ _ hc).2 hrv hd K
      · exact va_castY hG.exec hG.bytes hG.own (hG.hts _ hlink) hE hrv hd K
    · cases h1
theorem v_iO (hG : Gk Γ G own cc F L rt0) {k : Nat} {r : Option Nat} {nm : String} {T : u_T} {N index : Nat} {g : Int32 → Mr β} (hc : vwAll[k - 1]? = some (nm, T, N)) (h0 : 0 < k ∧ k < 40) (hlink : Cond.classLink own index nm ∈ lw_all) (hd : decode cc pc = .ok (.instanceof index, 3))
    (kk : ∀ x, VM Γ G QB (g x) σ (pc + 3) lv (.int x :: st)) : VM Γ G QB (bd (iO k r) g) σ pc lv (va_rf r :: st) := by
  intro y σ' hm hr H locs cells slots ls hW hF hcs hl
  obtain ⟨x, h1, h2⟩ := run_rd_inv hm
  cases r with
  | none =>
    cases h1
    exact lv_instN hG.exec hG.bytes hd (kk _ y σ' h2 hr H locs cells slots ls hW hF hcs hl)
  | some q =>
    have h1 : (if hK σ q % 100 = k then some 1 else none) = some x := h1
    split at h1
    · rename_i hk
      cases h1
      exact va_instS hG.exec hG.bytes hG.own (hG.hts _ hlink) (hG.vk.1 _ _ hc).2 (hW.recv hG hk h0 hc) hd (kk _ y σ' h2 hr H locs cells slots ls hW hF hcs hl)
    · cases h1
theorem arrVI {k q : Nat} (h : k < 44) : arrV (gaA Γ k) (hN σ q) (aV σ q k) = vp_cell (gaA Γ k) (hN σ q, .inl (hI σ q)) := by
  rw [vp_cell_i]
  congr 1
  funext j
  unfold aV
  rw [if_pos h]
theorem arrVR {k q : Nat} (h : 46 ≤ k) : arrV (gaA Γ k) (hN σ q) (aV σ q k) = vp_cell (gaA Γ k) (hN σ q, .inr (.inr (.inr (.inr (hR σ q))))) := by
  rw [vp_cell_q, aV_ref h]
theorem Gk.arrName (hG : Gk Γ G own cc F L rt0) {k : Nat} (h0 : 41 ≤ k ∧ k < 46) : (geS G).vm.findClass ("[" ++ (tyA k).toString) = some (gaA Γ k) := by
  have h := (hG.vk.2 _ _ (tysAt k (by omega) (by omega))).2
  rcases (show k = 41 ∨ k = 42 ∨ k = 43 ∨ k = 44 ∨ k = 45 by omega) with rfl | rfl | rfl | rfl | rfl <;> exact h
theorem v_caA (hG : Gk Γ G own cc F L rt0) {k : Nat} {r : Option Nat} {nm : String} {index : Nat} {g : Unit → Mr β} (h0 : 41 ≤ k ∧ k < 44) (hlink : Cond.classLink own index nm ∈ lw_all) (hnm : "[" ++ (tyA k).toString = nm) (hd : decode cc pc = .ok (.checkcast index, 3))
    (kk : VM Γ G QB (g ()) σ (pc + 3) lv (va_rf r :: st)) : VM Γ G QB (bd (caW k r) g) σ pc lv (va_rf r :: st) := by
  intro y σ' hm hr H locs cells slots ls hW hF hcs hl
  obtain ⟨x, h1, h2⟩ := run_rd_inv hm
  have K := kk y σ' h2 hr H locs cells slots ls hW hF hcs hl
  cases r with
  | none => exact lv_castN hG.exec hG.bytes hd K
  | some q =>
    have h1 : (if hK σ q = k then some () else none) = some x := h1
    split at h1
    · rename_i hk
      obtain ⟨hb, hq⟩ := hW.arrW hk (by omega) (by omega)
      rw [arrVI (by omega)] at hq
      refine va_castA (D := gaD Γ) (cl := vwAll) (ws := [(q, .inl (gaA Γ k, (hN σ q, .inl (hI σ q))))]) hG.exec hG.bytes hG.own (hG.hts _ hlink) (fun j z hj => ?_) 0 rfl (by rw [← hnm]; exact hG.arrName (by omega)) hd K
      match j, hj with
      | 0, hj => cases hj; exact hq
      | j + 1, hj => cases hj
    · cases h1
/-! copies -/
theorem v_cA (hG : Gk Γ G own cc F L rt0) {k : Nat} {r : Option Nat} {g : Nat → Mr β} {ad : String} {index : Nat} (h0 : 41 ≤ k ∧ k < 43) (hlink : Cond.methodLink own index ⟨ad, "clone", "()Ljava/lang/Object;"⟩ ∈ lw_all) (hsame : Cond.sameMethod ad "java/lang/Object" "clone" "()Ljava/lang/Object;" ∈ lw_all) (hnat : Cond.native ⟨"java/lang/Object", "clone", "()Ljava/lang/Object;"⟩ ∈ lw_all) (hinst : Cond.instanceMethod ⟨"java/lang/Object", "clone", "()Ljava/lang/Object;"⟩ ∈ lw_all)
    (hsel : Cond.selects ad ⟨ad, "clone", "()Ljava/lang/Object;"⟩ ⟨"java/lang/Object", "clone", "()Ljava/lang/Object;"⟩ ∈ lw_all) (hcl : Cond.castable ad "java/lang/Cloneable" ∈ lw_tbl) (hnm : "[" ++ (tyA k).toString = ad) (hframes : 1 ≤ F) (hlocals : (st.map fun v => v.category).sum + 14 ≤ L) (hd : decode cc pc = .ok (.invokevirtual index, 3))
    (kk : ∀ q σ1, VM Γ G QB (g q) σ1 (pc + 3) lv (.ref q :: st)) : VM Γ G QB (bd (cA k r) g) σ pc lv (va_rf r :: st) := by
  intro y σ' hm hr H locs cells slots ls hW hF hcs hl
  obtain ⟨hc1, h2⟩ := run_wr_inv hm
  cases r with
  | none => cases hc1
  | some a =>
  have hc1 : (decide (hK σ a = k) && okB σ k a 0 (hN σ a)) = true := hc1
  rw [Bool.and_eq_true] at hc1
  have hk : hK σ a = k := of_decide_eq_true hc1.1
  have hle := run_le h2
  have l1 := hle.1
  have l2 := hle.2.1
  rw [hSz_new] at l1
  rw [hSl_new] at l2
  have l2 : hSl σ + hN σ a ≤ hSl σ' := l2
  obtain ⟨hb, hq⟩ := hW.arrW hk (by omega) (by omega)
  have hnm' : (geS G).vm.findClass ad = some (gaA Γ k) := by rw [← hnm]; exact hG.arrName (by omega)
  have hAr := (hG.vk.2 _ _ (tysAt k (by omega) (by omega))).1
  have hfit : ∀ (i : Nat) (v : Value), (arrV (gaA Γ k) (hN σ a) (aV σ a k)).slots[i]? = some v → fits (tyA k) v = true := by
    intro i v hv
    have hi : i < hN σ a := by
      have := (Array.getElem?_eq_some_iff.mp hv).1
      rwa [arrV_size] at this
    rw [arrV_read _ _ hi] at hv
    cases hv
    unfold aV
    rw [if_pos (by omega)]
    rcases (show k = 41 ∨ k = 42 by omega) with rfl | rfl
    · rfl
    · have h3 := hc1.2
      unfold okB at h3
      rw [Bool.or_eq_true] at h3
      rcases h3 with h3 | h3
      · cases h3
      · have h4 := List.all_eq_true.mp h3 i (List.mem_range.mpr hi)
        rw [Nat.zero_add] at h4
        exact h4
  obtain ⟨c0, t0', f1, f2, f3⟩ := Cond.castable_spec (va_Nw.use (A := #[]) rfl (hG.nw hcl rfl fun hW hZ => va_Nw.warmC hW hZ))
  cases hnm'.symm.trans f1
  intro T hT X
  obtain ⟨-, kA, hkA, comp, hkind⟩ := State.isArrayOf_alike X.warmed.alike (hAr 0 (fun _ => .null))
  obtain ⟨-, kS, hkS, compS, hkindS⟩ := hAr 0 (fun _ => .null)
  have hR1 : 1 ≤ (geR G).frames := by rw [hG.frames]; exact hframes
  have hR2 : (st.map fun v => v.category).sum + 14 ≤ (geR G).locals := by rw [hG.locals]; exact hlocals
  obtain ⟨vm', X', st'⟩ := X.cloneArray hG.exec hG.own (hG.hts _ hlink) (hG.hts _ hsame) (hG.hts _ hnat) (hG.hts _ hinst) (hG.hts _ hsel) (a := a) (cell := arrV (gaA Γ k) (hN σ a) (aV σ a k)) (by rw [hT]; exact hq) (fun k h => by cases h) (fun h => by cases h) hnm' f2 f3
    (fun i v hv => by
      have hk' : T.vm.classes[gaA Γ k]? = some kA := hkA
      show T.fitsSlot (gaA Γ k) _ _ _ = true
      simpa [State.fitsSlot, State.slotType?, hk', hkind] using hfit i v hv)
    (g := F0 (geM G) pc ls (.ref a :: st)) rfl (by rw [hG.maxL]; exact hl.1) rfl (by rw [hG.bytes]; exact hd) hR1 (show 2 * 0 + _ + 14 ≤ (geR G).locals by omega) (show cells + 1 ≤ (geR G).cells by omega) (show slots + _ ≤ (geR G).slots by rw [arrV_size]; omega) (hloader := Vm.clonesLoader_of_array hkS hkindS)
  have hcellE : ({ cls := (arrV (gaA Γ k) (hN σ a) (aV σ a k)).cls, slots := (arrV (gaA Γ k) (hN σ a) (aV σ a k)).slots } : Cell) = arrV (gaA Γ k) (hN σ a) (aV σ a k) := rfl
  rw [hcellE, arrV_size] at X'
  generalize hH1 : H.push (arrV (gaA Γ k) (hN σ a) (aV σ a k)) = H1
  have z1 : H1.size = H.size + 1 := by rw [← hH1, Array.size_push]
  have e1 : H1[H.size]? = some (arrV (gaA Γ k) (hN σ a) (aV σ a k)) := by rw [← hH1, Array.getElem?_push_size]
  have o1 : ∀ q : Nat, q < H.size → H1[q]? = H[q]? := fun q hq => by rw [← hH1, Array.getElem?_push, if_neg (Nat.ne_of_lt hq)]
  have K := kk _ _ y σ' h2 hr H1 locs (cells + 1) (slots + hN σ a) ls (hW.mk z1 o1 (fun _ => Or.inr (Or.inl ⟨by rw [hK_new, hW.1, up1_s]; omega, by rw [hK_new, hW.1, up1_s]; omega, by rw [← hW.1]; exact hW.2.1, by
    unfold wcA
    rw [hK_new, hN_new, hW.1, up1_s, up1_s, aV_new _ hW.1.symm, e1]
    show some (arrV _ (hN σ a) _) = some (arrV _ (hN σ a) _)
    congr 2
    funext j
    rw [if_pos (by omega)]
    unfold aV
    rw [if_pos (by omega)]
    rfl⟩))) (hF.mk hG (by omega) o1) (by rw [hSz_new, hSl_new]; show _ ∧ hSl σ + hN σ a = _; omega) hl
  obtain ⟨t, b1, b2⟩ := K ((T.setVm vm').pushCell (arrV (gaA Γ k) (hN σ a) (aV σ a k))) (by rw [← hH1, ← hT]; rfl) X'
  refine ⟨t, st' t ?_, b2⟩
  rw [hcellE, hT, ← hW.1]
  exact b1
theorem nnI {z : Int32} (hz : ¬ z < 0) : z.toInt = (z.toNatClampNeg : Int) := by
  have hz0 : (0 : Int) ≤ z.toInt := by
    have := Int32.not_lt.mp hz
    simpa using Int32.le_iff_toInt_le.mp this
  show z.toInt = ((z.toInt.toNat : Nat) : Int)
  omega
theorem isK_ok {a : Hp} {k : Nat} {r : Option Nat} (h : isK a k r = true) : ∃ q, r = some q ∧ hK a q = k := by
  cases r with
  | none => cases h
  | some q => exact ⟨q, rfl, of_decide_eq_true h⟩
theorem v_cpI (hG : Gk Γ G own cc F L rt0) {k : Nat} {r d : Option Nat} {sp dp n : Int32} {g : Unit → Mr β} {index : Nat} (h0 : 41 ≤ k ∧ k < 43) (hlink : Cond.methodLink own index arraycopyName ∈ lw_all) (hnat : Cond.native arraycopyName ∈ lw_all) (hstat : Cond.static arraycopyName ∈ lw_all) (hini : Cond.initialized "java/lang/System" ∈ lw_all)
    (hframes : 1 ≤ F) (hlocals : (st.map fun v => v.category).sum + (nativeFrameWords "java/lang/System" "arraycopy" 5 + 11) ≤ L) (hd : decode cc pc = .ok (.invokestatic index, 3))
    (kk : ∀ σ1, VM Γ G QB (g ()) σ1 (pc + 3) lv st) : VM Γ G QB (bd (cpI k r sp d dp n) g) σ pc lv (.int n :: .int dp :: va_rf d :: .int sp :: va_rf r :: st) := by
  intro y σ' hm hr H locs cells slots ls hW hF hcs hl
  obtain ⟨hc1, h2⟩ := run_wr_inv hm
  simp only [Bool.and_eq_true] at hc1
  obtain ⟨c1, c2, c3, c4, c5⟩ := hc1
  obtain ⟨a0, rfl, hk0⟩ := isK_ok c1
  obtain ⟨a, rfl, hk1⟩ := isK_ok c2
  obtain ⟨p1, p2, p3⟩ := of_decide_eq_true c3
  obtain ⟨u1, u2, u3⟩ := of_decide_eq_true c4
  obtain ⟨hb0, hq0⟩ := hW.arrW hk0 (by omega) (by omega)
  obtain ⟨hb, hq⟩ := hW.arrW hk1 (by omega) (by omega)
  rw [arrVI (by omega)] at hq0 hq
  have hAr := (hG.vk.2 _ _ (tysAt k (by omega) (by omega))).1
  have hprim : refKind (tyA k) = false := by rcases (show k = 41 ∨ k = 42 by omega) with rfl | rfl <;> rfl
  intro T hT X
  obtain ⟨-, k0, hkk, cm0, hkk0⟩ := hAr 0 (fun _ => .null)
  have hR1 : 1 ≤ (geR G).frames := by rw [hG.frames]; exact hframes
  have hR2 : (st.map fun v => v.category).sum + (nativeFrameWords "java/lang/System" "arraycopy" 5 + 11) ≤ (geR G).locals := by rw [hG.locals]; exact hlocals
  obtain ⟨vm', X', step⟩ := X.arraycopy hG.exec hG.own (hG.hts _ hlink) (hG.hts _ hnat) (hG.hts _ hstat) (hG.hts _ hini) (src := a0) (dst := a) (cs := vp_cell (gaA Γ k) (hN σ a0, .inl (hI σ a0))) (cd := vp_cell (gaA Γ k) (hN σ a, .inl (hI σ a))) (srcPos := sp) (destPos := dp) (n := n) (by rw [hT]; exact hq0) (by rw [hT]; exact hq)
    (fun _ h => by cases h) (fun _ h => by cases h) (fun h => by cases h) (fun h => by cases h) hkk hkk hkk0 hkk0 (by rw [hprim]; simp) p1 u1 p2
    (by rw [nnI p1, nnI p2]; show ¬ _ > ((arrV (gaA Γ k) (hN σ a0) (fun j => .int (hI σ a0 j))).slots.size : Int); rw [arrV_size]; omega)
    (by rw [nnI u1, nnI u2]; show ¬ _ > ((arrV (gaA Γ k) (hN σ a) (fun j => .int (hI σ a j))).slots.size : Int); rw [arrV_size]; omega)
    (fun vm₁ _ i hi => by
      have e : (vp_cell (gaA Γ k) (hN σ a0, .inl (hI σ a0))).slots.getD (sp.toNatClampNeg + i) .null = .int (hI σ a0 (sp.toNatClampNeg + i)) := by
        show (arrV (gaA Γ k) (hN σ a0) (fun j => .int (hI σ a0 j))).slots.getD _ _ = _
        rw [Array.getD_eq_getD_getElem?, arrV_read _ _ (by omega)]
        rfl
      refine ⟨?_, ?_⟩
      · rw [e]
        rcases (show k = 41 ∨ k = 42 by omega) with rfl | rfl
        · rfl
        · unfold okB at c5
          rw [Bool.or_eq_true] at c5
          rcases c5 with c5 | c5
          · cases c5
          · exact List.all_eq_true.mp c5 i (List.mem_range.mpr hi)
      · rw [e]
        exact trivial)
    (g := F0 (geM G) pc ls (.int n :: .int dp :: .ref a :: .int sp :: .ref a0 :: st)) rfl (by rw [hG.maxL]; exact hl.1) (rest := st) rfl (by rw [hG.bytes]; exact hd) hR1 (show 2 * 0 + _ + _ ≤ (geR G).locals by omega)
  have e1 : copied (vp_cell (gaA Γ k) (hN σ a0, .inl (hI σ a0))) (vp_cell (gaA Γ k) (hN σ a, .inl (hI σ a))) sp dp n = vp_cell (gaA Γ k) (hN σ a, .inl (va_cpy (hI σ a0) (hI σ a) sp.toNatClampNeg dp.toNatClampNeg n.toNatClampNeg)) := va_copied (fun z => .int z) _ _ (hI σ a0) (hI σ a) p3
  rw [e1] at X' step
  have hlt : a < H.size := (Array.getElem?_eq_some_iff.mp hq).1
  have oq : ∀ q : Nat, q ≠ a → (H.setIfInBounds a (vp_cell (gaA Γ k) (hN σ a, .inl (va_cpy (hI σ a0) (hI σ a) sp.toNatClampNeg dp.toNatClampNeg n.toNatClampNeg))))[q]? = H[q]? := fun q hq => by simp [Array.getElem?_setIfInBounds, Ne.symm hq]
  have en : (H.setIfInBounds a (vp_cell (gaA Γ k) (hN σ a, .inl (va_cpy (hI σ a0) (hI σ a) sp.toNatClampNeg dp.toNatClampNeg n.toNatClampNeg))))[a]? = some (vp_cell (gaA Γ k) (hN σ a, .inl (va_cpy (hI σ a0) (hI σ a) sp.toNatClampNeg dp.toNatClampNeg n.toNatClampNeg))) := by simp [Array.getElem?_setIfInBounds, hlt]
  have hz : (H.setIfInBounds a (vp_cell (gaA Γ k) (hN σ a, .inl (va_cpy (hI σ a0) (hI σ a) sp.toNatClampNeg dp.toNatClampNeg n.toNatClampNeg)))).size = H.size := by simp
  obtain ⟨t, a1, b1⟩ := kk _ y σ' h2 hr _ _ cells slots ls (hW.upd (q := a) rfl (fun p hp => ⟨up1_n _ _ hp, rfl, rfl⟩) hz oq (Or.inr (Or.inl ⟨by rw [hK_wI, hk1]; omega, by rw [hK_wI, hk1]; omega, hb, by
    unfold wcA
    rw [hK_wI, hk1, arrVI (by omega)]
    show _ = some (vp_cell (gaA Γ k) (hN σ a, .inl (up1 (hI σ) a _ a)))
    rw [up1_s]
    exact en⟩))) ⟨fun q g1 => (oq q (by omega)).trans (hF.1 q g1), by rw [hz]; exact hF.2.1, fun q hq => by
      rcases List.mem_append.mp hq with h | h
      · exact hF.2.2 q h
      · obtain ⟨z, -, hz⟩ := List.mem_map.mp h
        rw [← hz]
        exact hb⟩ hcs hl _ (by rw [← hT]; rfl) X'
  exact ⟨t, step t a1, b1⟩
theorem v_cpR (hG : Gk Γ G own cc F L rt0) {k : Nat} {ks : List Nat} {E : String} {r d : Option Nat} {sp dp n : Int32} {g : Unit → Mr β} {index : Nat} (h0 : 46 ≤ k ∧ k < 52) (hE : tyA k = .object E) (hks : okAny Γ G σ ks E) (hlink : Cond.methodLink own index arraycopyName ∈ lw_all) (hnat : Cond.native arraycopyName ∈ lw_all) (hstat : Cond.static arraycopyName ∈ lw_all) (hini : Cond.initialized "java/lang/System" ∈ lw_all)
    (hframes : 1 ≤ F) (hlocals : (st.map fun v => v.category).sum + (nativeFrameWords "java/lang/System" "arraycopy" 5 + 11) ≤ L) (hd : decode cc pc = .ok (.invokestatic index, 3))
    (kk : ∀ σ1, VM Γ G QB (g ()) σ1 (pc + 3) lv st) : VM Γ G QB (bd (cpR k ks r sp d dp n) g) σ pc lv (.int n :: .int dp :: va_rf d :: .int sp :: va_rf r :: st) := by
  intro y σ' hm hr H locs cells slots ls hW hF hcs hl
  obtain ⟨hc1, h2⟩ := run_wr_inv hm
  simp only [Bool.and_eq_true] at hc1
  obtain ⟨c1, c2, c3, c4, c5⟩ := hc1
  obtain ⟨a0, rfl, hk0⟩ := isK_ok c1
  obtain ⟨a, rfl, hk1⟩ := isK_ok c2
  obtain ⟨p1, p2, p3⟩ := of_decide_eq_true c3
  obtain ⟨u1, u2, u3⟩ := of_decide_eq_true c4
  obtain ⟨hb0, hq0⟩ := hW.arrW hk0 (by omega) (by omega)
  obtain ⟨hb, hq⟩ := hW.arrW hk1 (by omega) (by omega)
  rw [arrVR (by omega)] at hq0 hq
  have hAr := (hG.vk.2 _ _ (tysAt k (by omega) (by omega))).1
  have hprim : refKind (tyA k) = true := by rw [hE]; rfl
  intro T hT X
  obtain ⟨-, k0, hkk, cm0, hkk0⟩ := hAr 0 (fun _ => .null)
  have hR1 : 1 ≤ (geR G).frames := by rw [hG.frames]; exact hframes
  have hR2 : (st.map fun v => v.category).sum + (nativeFrameWords "java/lang/System" "arraycopy" 5 + 11) ≤ (geR G).locals := by rw [hG.locals]; exact hlocals
  obtain ⟨vm', X', step⟩ := X.arraycopy hG.exec hG.own (hG.hts _ hlink) (hG.hts _ hnat) (hG.hts _ hstat) (hG.hts _ hini) (src := a0) (dst := a) (cs := vp_cell (gaA Γ k) (hN σ a0, .inr (.inr (.inr (.inr (hR σ a0)))))) (cd := vp_cell (gaA Γ k) (hN σ a, .inr (.inr (.inr (.inr (hR σ a)))))) (srcPos := sp) (destPos := dp) (n := n) (by rw [hT]; exact hq0) (by rw [hT]; exact hq)
    (fun _ h => by cases h) (fun _ h => by cases h) (fun h => by cases h) (fun h => by cases h) hkk hkk hkk0 hkk0 (by rw [hprim]; simp) p1 u1 p2
    (by rw [nnI p1, nnI p2]; show ¬ _ > ((arrV (gaA Γ k) (hN σ a0) (fun j => va_rf (hR σ a0 j))).slots.size : Int); rw [arrV_size]; omega)
    (by rw [nnI u1, nnI u2]; show ¬ _ > ((arrV (gaA Γ k) (hN σ a) (fun j => va_rf (hR σ a j))).slots.size : Int); rw [arrV_size]; omega)
    (fun vm₁ hal i hi => by
      have e : (vp_cell (gaA Γ k) (hN σ a0, .inr (.inr (.inr (.inr (hR σ a0)))))).slots.getD (sp.toNatClampNeg + i) .null = va_rf (hR σ a0 (sp.toNatClampNeg + i)) := by
        show (arrV (gaA Γ k) (hN σ a0) (fun j => va_rf (hR σ a0 j))).slots.getD _ _ = _
        rw [Array.getD_eq_getD_getElem?, arrV_read _ _ (by omega)]
        rfl
      rw [e]
      have hok := List.all_eq_true.mp c5 i (List.mem_range.mpr hi)
      have hok : okR σ ks (hR σ a0 (sp.toNatClampNeg + i)) = true := hok
      cases hy : hR σ a0 (sp.toNatClampNeg + i) with
      | none => rw [hE]; exact ⟨rfl, trivial⟩
      | some w =>
        rw [hy] at hok
        obtain ⟨cellV, g1, g2, ⟨kC, hkC⟩, hasg⟩ := hks H hW w hok
        have hRA := (hG.vk.2 _ _ (tysAt k (by omega) (by omega))).2
        rw [hE] at hRA
        obtain ⟨kA, comp, r1, r2, r3, -⟩ := hRA
        cases hkk.symm.trans r1
        rw [hE] at hkk0
        cases hkk0.symm.trans r2
        obtain ⟨kE, hkE, -⟩ := Vm.findClass_spec r3
        obtain ⟨kC', hkC', -⟩ := hal.2.2 _ _ hkC
        obtain ⟨kE', hkE', -⟩ := hal.2.2 _ _ hkE
        rw [hE]
        refine ⟨rfl, cellV, (show T.heap[w]? = some cellV by rw [hT]; exact g1), (fun q h => by rw [h] at g2; cases g2), ⟨kC', hkC'⟩, ?_, ?_⟩
        · exact ⟨kE', hkE'⟩
        · show vm₁.assignable _ _ = true
          rw [hal.assignable]
          exact hasg _ r3)
    (g := F0 (geM G) pc ls (.int n :: .int dp :: .ref a :: .int sp :: .ref a0 :: st)) rfl (by rw [hG.maxL]; exact hl.1) (rest := st) rfl (by rw [hG.bytes]; exact hd) hR1 (show 2 * 0 + _ + _ ≤ (geR G).locals by omega)
  have e1 : copied (vp_cell (gaA Γ k) (hN σ a0, .inr (.inr (.inr (.inr (hR σ a0)))))) (vp_cell (gaA Γ k) (hN σ a, .inr (.inr (.inr (.inr (hR σ a)))))) sp dp n = vp_cell (gaA Γ k) (hN σ a, .inr (.inr (.inr (.inr (va_cpy (hR σ a0) (hR σ a) sp.toNatClampNeg dp.toNatClampNeg n.toNatClampNeg))))) := by
    rw [vp_cell_q, vp_cell_q, vp_cell_q]
    exact va_copied (fun z => va_rf z) _ _ (hR σ a0) (hR σ a) p3
  rw [e1] at X' step
  have hlt : a < H.size := (Array.getElem?_eq_some_iff.mp hq).1
  have oq : ∀ q : Nat, q ≠ a → (H.setIfInBounds a (vp_cell (gaA Γ k) (hN σ a, .inr (.inr (.inr (.inr (va_cpy (hR σ a0) (hR σ a) sp.toNatClampNeg dp.toNatClampNeg n.toNatClampNeg)))))))[q]? = H[q]? := fun q hq => by simp [Array.getElem?_setIfInBounds, Ne.symm hq]
  have en : (H.setIfInBounds a (vp_cell (gaA Γ k) (hN σ a, .inr (.inr (.inr (.inr (va_cpy (hR σ a0) (hR σ a) sp.toNatClampNeg dp.toNatClampNeg n.toNatClampNeg)))))))[a]? = some (vp_cell (gaA Γ k) (hN σ a, .inr (.inr (.inr (.inr (va_cpy (hR σ a0) (hR σ a) sp.toNatClampNeg dp.toNatClampNeg n.toNatClampNeg)))))) := by simp [Array.getElem?_setIfInBounds, hlt]
  have hz : (H.setIfInBounds a (vp_cell (gaA Γ k) (hN σ a, .inr (.inr (.inr (.inr (va_cpy (hR σ a0) (hR σ a) sp.toNatClampNeg dp.toNatClampNeg n.toNatClampNeg))))))).size = H.size := by simp
  obtain ⟨t, a1, b1⟩ := kk _ y σ' h2 hr _ _ cells slots ls (hW.upd (q := a) rfl (fun p hp => ⟨rfl, up1_n _ _ hp, rfl⟩) hz oq (Or.inr (Or.inl ⟨by rw [hK_wR, hk1]; omega, by rw [hK_wR, hk1]; omega, hb, by
    unfold wcA
    rw [hK_wR, hk1, arrVR (by omega)]
    show _ = some (vp_cell (gaA Γ k) (hN σ a, .inr (.inr (.inr (.inr (up1 (hR σ) a _ a))))))
    rw [up1_s]
    exact en⟩))) ⟨fun q g1 => (oq q (by omega)).trans (hF.1 q g1), by rw [hz]; exact hF.2.1, fun q hq => by
      rcases List.mem_append.mp hq with h | h
      · exact hF.2.2 q h
      · obtain ⟨z, -, hz⟩ := List.mem_map.mp h
        rw [← hz]
        exact hb⟩ hcs hl _ (by rw [← hT]; rfl) X'
  exact ⟨t, step t a1, b1⟩
/-! switches -/
theorem v_tout (hG : Gk Γ G own cc F L rt0) {dflt lo hi : Int} {offs : Array Int} {len : Nat} {x : Int32} (tgt : Nat) (hd : decode cc pc = .ok (.tableswitch dflt lo hi offs, len)) (h : x.toInt < lo ∨ hi < x.toInt) (ht : (pc : Int) + dflt = (tgt : Int)) (k : VM Γ G QB mm σ tgt lv st) : VM Γ G QB mm σ pc lv (.int x :: st) := fun a σ' hm hr H locs cells slots ls hW hF hc hl => lv_tableOut hG.exec hG.bytes hd h ht (k a σ' hm hr H locs cells slots ls hW hF hc hl)
theorem v_tin (hG : Gk Γ G own cc F L rt0) {dflt lo hi : Int} {offs : Array Int} {len : Nat} {x x0 : Int32} (hx : x = x0) {off : Int} (tgt : Nat) (hd : decode cc pc = .ok (.tableswitch dflt lo hi offs, len)) (h1 : ¬ x0.toInt < lo) (h2 : ¬ hi < x0.toInt) (ho : offs[(x0.toInt - lo).toNat]? = some off) (ht : (pc : Int) + off = (tgt : Int)) (k : VM Γ G QB mm σ tgt lv st) : VM Γ G QB mm σ pc lv (.int x :: st) := fun a σ' hm hr H locs cells slots ls hW hF hc hl => lv_tableIn hG.exec hG.bytes hd (hx ▸ h1) (hx ▸ h2) (hx ▸ ho) ht (k a σ' hm hr H locs cells slots ls hW hF hc hl)
theorem v_look (hG : Gk Γ G own cc F L rt0) {dflt : Int} {ps : Array (Int × Int)} {len : Nat} {x : Int32} {off : Int} (tgt : Nat) (hd : decode cc pc = .ok (.lookupswitch dflt ps, len)) (hp : (ps.toList.zip (ps.toList.drop 1)).all (fun (a, next) => a.1 < next.1) = true) (ho : Op.lookupswitch.offset ps.toList dflt x.toInt = off) (ht : (pc : Int) + off = (tgt : Int)) (k : VM Γ G QB mm σ tgt lv st) : VM Γ G QB mm σ pc lv (.int x :: st) := fun a σ' hm hr H locs cells slots ls hW hF hc hl => lv_lookup hG.exec hG.bytes hd hp ho ht (k a σ' hm hr H locs cells slots ls hW hF hc hl)
theorem v_lookE (hG : Gk Γ G own cc F L rt0) {dflt : Int} {ps : Array (Int × Int)} {len : Nat} {x x0 : Int32} (hx : x = x0) {off : Int} (tgt : Nat) (hd : decode cc pc = .ok (.lookupswitch dflt ps, len)) (hp : (ps.toList.zip (ps.toList.drop 1)).all (fun (a, next) => a.1 < next.1) = true) (ho : Op.lookupswitch.offset ps.toList dflt x0.toInt = off) (ht : (pc : Int) + off = (tgt : Int)) (k : VM Γ G QB mm σ tgt lv st) : VM Γ G QB mm σ pc lv (.int x :: st) := fun a σ' hm hr H locs cells slots ls hW hF hc hl => lv_lookup hG.exec hG.bytes hd hp (hx ▸ ho) ht (k a σ' hm hr H locs cells slots ls hW hF hc hl)
theorem ne_toInt {x c : Int32} (h : ¬ x = c) : x.toInt ≠ c.toInt := fun e => h (Int32.toInt_inj.mp e)
/-! arrays of arrays -/
theorem v_ldc_w (hG : Gk Γ G own cc F L rt0) {index : Nat} {v : Int32} (hc : Jvm.Cond.constant own index v ∈ lw_all) (hd : decode cc pc = .ok (.ldc_w index, 3)) (k : VM Γ G QB mm σ (pc + 3) lv (.int v :: st)) : VM Γ G QB mm σ pc lv st := fun a σ' hm hr H locs cells slots ls hW hF hcs hl => lv_ldcw hG.exec hG.bytes hG.own (hG.hts _ hc) hd (k a σ' hm hr H locs cells slots ls hW hF hcs hl)
theorem v_ldc (hG : Gk Γ G own cc F L rt0) {index : Nat} {v : Int32} (hc : Jvm.Cond.constant own index v ∈ lw_all) (hd : decode cc pc = .ok (.ldc index, 2)) (k : VM Γ G QB mm σ (pc + 2) lv (.int v :: st)) : VM Γ G QB mm σ pc lv st := fun a σ' hm hr H locs cells slots ls hW hF hcs hl => lv_ldc hG.exec hG.bytes hG.own (hG.hts _ hc) hd (k a σ' hm hr H locs cells slots ls hW hF hcs hl)
theorem v_callI (hG : Gk Γ G own cc F L rt0) {f : Nat → Mr Unit} {k : Unit → Mr β} {y : MethodName} {b : ByteArray} {nl F' L' idx h : Nat} (As : List Value) {rest : List Value} (n : Nat)
    (hC : ∀ h, Ct Γ y (ws_ y b nl none) F' L' evU (f h) (.ref h :: As)) (hm1 : Cond.code y b nl none ∈ lw_all) (hini : Cond.initialized y.cls ∈ lw_all) (hlk : Cond.methodLink own idx y ∈ lw_all) (hin : Cond.instanceMethod y ∈ lw_all) (hy1 : y.name = "<init>")
    (hd2 : y.cls ≠ "java/lang/invoke/MethodHandle" ∧ y.cls ≠ "java/lang/invoke/VarHandle" ∧ (parseMethodDescriptor y.desc).map (fun d => d.parameters.length) = some n) (hRm : F' + 1 ≤ F ∧ 8 + (nl + 11) + L' ≤ L) (hn : As.length = n) (hst : st = As.reverse ++ .ref h :: rest) (hrest : (rest.map fun v => v.category).sum ≤ 8) (hd : decode cc pc = .ok (.invokespecial idx, 3))
    (kk : ∀ x σ1, VM Γ G QB (k x) σ1 (pc + 3) lv rest) : VM Γ G QB (bd (f h) k) σ pc lv st := VM.callI hG As n hC hm1 hini hlk hin hy1 hd2 hRm hn hst hrest hd kk
theorem Gk.zCS (hG : Gk Γ G own cc F L rt0) : gaZ Γ "java/lang/String" "COMPACT_STRINGS" "Z" (.int 1) := hG.ok.2.2.2.1.1
theorem Gk.z1 (hG : Gk Γ G own cc F L rt0) : gaZ Γ "jdk/internal/util/Preconditions" "SIOOBE_FORMATTER" "Ljava/util/function/BiFunction;" (va_rf (gaS Γ 1)) := hG.ok.2.2.2.1.2.1
theorem Gk.z2 (hG : Gk Γ G own cc F L rt0) : gaZ Γ "java/lang/Throwable" "UNASSIGNED_STACK" "[Ljava/lang/StackTraceElement;" (va_rf (gaS Γ 2)) := hG.ok.2.2.2.1.2.2.1
theorem Gk.z3 (hG : Gk Γ G own cc F L rt0) : gaZ Γ "java/lang/Throwable" "SUPPRESSED_SENTINEL" "Ljava/util/List;" (va_rf (gaS Γ 3)) := hG.ok.2.2.2.1.2.2.2
theorem v_gs (hG : Gk Γ G own cc F L rt0) {C n d : String} {v : Value} {index : Nat} (hZ : gaZ Γ C n d v) (hlink : Cond.fieldLink own index C n d ∈ lw_all) (hd : decode cc pc = .ok (.getstatic index, 3)) (k : VM Γ G QB mm σ (pc + 3) lv (v :: st)) : VM Γ G QB mm σ pc lv st := by
  intro a σ' hm hr H locs cells slots ls hW hF hc hl
  obtain ⟨cf, kf, fi, f, a0, cell, h1, h2, h3, h4, h5, h6, h7, h8⟩ := va_Z.moved hG.cx.1.alike hZ
  have h8 : a0 < gaB Γ := Nat.not_le.mp h8
  exact W.gets hG.exec hG.bytes hG.own (hG.hts _ hlink) h1 h2 h3 h4 (by rw [hF.1 a0 h8, hG.cx.2 a0 h8]; exact h5) (fun e => by rw [e] at h6; cases h6) h7 rfl hd (k a σ' hm hr H locs cells slots ls hW hF hc hl)
theorem v_gsI (hG : Gk Γ G own cc F L rt0) {C n d : String} {v : Int32} {index : Nat} (hZ : gaZ Γ C n d (.int v)) (hlink : Cond.fieldLink own index C n d ∈ lw_all) (hd : decode cc pc = .ok (.getstatic index, 3)) (k : VM Γ G QB mm σ (pc + 3) lv (.int v :: st)) : VM Γ G QB mm σ pc lv st := v_gs hG hZ hlink hd k
theorem v_gsR (hG : Gk Γ G own cc F L rt0) {C n d : String} {k index : Nat} {g : Option Nat → Mr β} (hZ : gaZ Γ C n d (va_rf (gaS Γ k))) (hlink : Cond.fieldLink own index C n d ∈ lw_all) (hd : decode cc pc = .ok (.getstatic index, 3)) (kk : ∀ x, VM Γ G QB (g x) σ (pc + 3) lv (va_rf x :: st)) : VM Γ G QB (bd (gS k) g) σ pc lv st := by
  intro y σ' hm hr H locs cells slots ls hW hF hcs hl
  obtain ⟨x, h1, h2⟩ := run_rd_inv hm
  cases h1
  refine v_gs hG hZ hlink hd ?_ y σ' h2 hr H locs cells slots ls hW hF hcs hl
  rw [← hW.2.2.1]
  exact kk _
theorem vb_ldcwX {p : Program} {l : Launch} {e : Env} {R : Room} {s : State} {m : MethodId} {args : Array Value} {below : List Frame} {meth : Method} {c : Code} {T : State} {locs : List Loc} {cells slots : Nat}
    (X : Stand p l e R s m args below meth c T locs cells slots) (hexec : p.tables.exec = Jvm.exec) {own text : String} {index : Nat} {a : Addr} (hown : s.vm.findClass own = some m.cls)
    (hconst : (Cond.stringRef own index text).before args s = true) (hev : (Term.string own index).eval args s none [] s = some (.ref a)) {g : JFrame} (hg : g.method = m) (hdg : decode c.code g.pc = .ok (.ldc_w index, 3)) :
    ∀ target, Steps p.tables e below (T.setTop { g with pc := g.pc + 3, stack := .ref a :: g.stack }) target → Steps p.tables e below (T.setTop g) target := by
  obtain ⟨k, cf, i, a', hk, hcf, hcp, -, hr, hev'⟩ := Cond.stringRef_spec hown hconst
  cases hev.symm.trans hev'
  obtain ⟨k', hk', he⟩ := X.warmed.alike.2.2 _ _ hk
  have hr' : k'.resolved[index]? = some (some (.string a)) := by
    rcases X.warmed.entry hk hk' index with h | ⟨h, -⟩
    · rw [h]; exact hr
    · rw [hr] at h; cases h
  intro target hrest
  subst hg
  jvm_step X.here [hexec, hdg, ldc_w.wp_string (e := e) (s := T) (f := g) X.here.top hk' (by rw [he]; exact hcf) hcp hr']
  exact hrest
theorem vb_ldcwS {p : Program} {l : Launch} {e : Env} {R : Room} {s : State} {m : MethodId} {args : Array Value} {below : List Frame} {meth : Method} {c : Code} {H : Array Cell} {locs : List Loc} {cells slots : Nat} {Q : State → Prop} {cc : ByteArray} {pc : Nat} {ls : Array Slot} {rest : List Value} (hexec : p.tables.exec = Jvm.exec) (hb : c.code = cc) {own tx : String} {index q : Nat} (hown : s.vm.findClass own = some m.cls) (hZ : vk_R own index tx q s) (hdg : decode cc pc = .ok (.ldc_w index, 3))
    (k : W p l e R s m args below meth c H locs cells slots Q (F0 m (pc + 3) ls (.ref q :: rest))) : W p l e R s m args below meth c H locs cells slots Q (F0 m pc ls rest) := by
  intro T hT X
  obtain ⟨t, a1, b1⟩ := k T hT X
  exact ⟨t, vb_ldcwX X hexec hown (text := tx) (a := q) hZ.1 hZ.2 (g := F0 m pc ls rest) rfl (by rw [hb]; exact hdg) t a1, b1⟩
theorem v_ldcS (hG : Gk Γ G own cc F L rt0) {i index : Nat} {tx : String} {g : Nat → Mr β} (hi : strTab[i]? = some (own, index, tx)) (hd : decode cc pc = .ok (.ldc index, 2)) (kk : ∀ q, VM Γ G QB (g q) σ (pc + 2) lv (.ref q :: st)) : VM Γ G QB (bd (gC (100 + i)) g) σ pc lv st := by
  intro y σ' hm hr H locs cells slots ls hW hF hcs hl
  obtain ⟨q, h1, h2⟩ := run_rd_inv hm
  obtain ⟨a, h3, h4⟩ := hG.ok.2.2.2.2.1 i _ hi
  rw [hW.2.2.1, h3] at h1
  cases h1
  exact va_ldcS hG.exec hG.bytes hG.own (vk_R.warm hG.cx.1 h4) hd (kk _ y σ' h2 hr H locs cells slots ls hW hF hcs hl)
theorem v_ldc_wS (hG : Gk Γ G own cc F L rt0) {i index : Nat} {tx : String} {g : Nat → Mr β} (hi : strTab[i]? = some (own, index, tx)) (hd : decode cc pc = .ok (.ldc_w index, 3)) (kk : ∀ q, VM Γ G QB (g q) σ (pc + 3) lv (.ref q :: st)) : VM Γ G QB (bd (gC (100 + i)) g) σ pc lv st := by
  intro y σ' hm hr H locs cells slots ls hW hF hcs hl
  obtain ⟨q, h1, h2⟩ := run_rd_inv hm
  obtain ⟨a, h3, h4⟩ := hG.ok.2.2.2.2.1 i _ hi
  rw [hW.2.2.1, h3] at h1
  cases h1
  exact vb_ldcwS hG.exec hG.bytes hG.own (vk_R.warm hG.cx.1 h4) hd (kk _ y σ' h2 hr H locs cells slots ls hW hF hcs hl)
theorem lk_ne {x c : Int32} {z : Int} (h : ¬ x = c) (hz : c.toInt = z) : ¬ z = x.toInt := fun e => h (Int32.toInt_inj.mp (e.symm.trans hz.symm))
/-! calls of inherited methods -/
theorem sel_private {C : String} {n : Nat} {y z : MethodName} {s : State} {args : Array Value} (hy : y.cls ≠ "java/lang/invoke/MethodHandle" ∧ y.cls ≠ "java/lang/invoke/VarHandle") (hins : (Cond.instantiable C n).before args s = true) (hpriv : (Cond.privateMethod y).before args s = true) (hinst : (Cond.instanceMethod y).before args s = true)
    (hz : (Cond.selects C z z).before args s = true) (hzc : z.cls = y.cls) : (Cond.selects C y y).before args s = true := by
  obtain ⟨c, k, hc, hk, -⟩ := Cond.instantiable_spec hins
  obtain ⟨mk, methM, hnamed, hmethM, -, -⟩ := Cond.instanceMethod_spec hinst
  have hfound : s.methodFound? y.cls y.name y.desc = some mk := State.methodFound?_of_named hnamed hy
  have hsel : selectMethod {} s.vm c mk = .method mk := selectMethod_private hmethM (Cond.privateMethod_at hpriv mk methM hnamed hmethM)
  obtain ⟨c', r, m', h1, h2, h3, h4, mk', h5, h6⟩ := Cond.selects_spec hz
  have e : m'.cls = mk.cls := by
    have a := findClass_of_methodNamed h3
    rw [hzc] at a
    exact Option.some.inj (a.symm.trans (findClass_of_methodNamed hnamed))
  rw [e] at h5
  simp only [Cond.before, Cond.holds, Cond.value, hc, hfound, hnamed, hsel, h5]
  simp; exact h6
theorem VM.callU (hG : Gk Γ G own cc F L rt0) {α : Type} {f : Nat → Mr α} {k : α → Mr β} {ev : α → Option Value} {kd : Nat} {C owner : String} {T : u_T} {N : Nat} {x y : MethodName} {b : ByteArray} {nl F' L' idx : Nat} {ret : Option FieldType} {r : Option Nat} (As : List Value) {rest : List Value} (n : Nat)
    (hC : ∀ h, Ct Γ y (ws_ y b nl ret) F' L' ev (f h) (.ref h :: As)) (hc : vwAll[kd - 1]? = some (C, T, N)) (h0 : 0 < kd ∧ kd < 40)
    (hcu : ∀ (rm : Room) (mc ms : Nat), rm.cells = mc → rm.slots = ms → rm.frames = F' → rm.locals = L' → va_CU (geR G) (geS G) G.2.1.2.2.1 own C owner idx x y b nl ret (ws_ y b nl ret) rm mc ms n) (hn : As.length = n) (hst : st = As.reverse ++ va_rf r :: rest) (hrest : (rest.map fun v => v.category).sum ≤ 8) (hd : decode cc pc = .ok (.invokevirtual idx, 3))
    (kk : ∀ x σ1, VM Γ G QB (k x) σ1 (pc + 3) lv ((ev x).toList ++ rest)) : VM Γ G QB (bd (rc kd r) fun h => bd (f h) k) σ pc lv st := by
  intro y' σ' hm
  obtain ⟨h, e1, e2⟩ := run_rd_inv hm
  obtain ⟨q, rfl, e3⟩ := Option.bind_eq_some_iff.mp e1
  split at e3
  · rename_i hk
    cases e3
    refine VM.call hG (ev := ev) (rest := rest) (args := (Value.ref h :: As).toArray) (fun x σ1 h1 H locs cells slots ls hW hF hls hf => ?_) kk y' σ' e2
    exact va_runU (As := As) (rest := rest) ⟨hG.exec, hG.bytes, hG.maxL, hG.own, hG.hts⟩ (hC h σ x σ1 h1) (hcu _ _ _ rfl rfl rfl rfl) ⟨Pc_blind, hW.recv hG hk h0 hc, fun U hU hw2 => Pc_of hG hW hF U hU hw2⟩ rfl hn hls hst (lv_room hrest) hd hf
  · cases e3
theorem cuU (hG : Gk Γ G own cc F L rt0) {C owner : String} {x y : MethodName} {b : ByteArray} {nl F' L' idx n : Nat} {ret : Option FieldType} (hT : GoodIn lw_all (va_wsU own idx C owner x y (ws_ y b nl ret))) (hyx : y = ⟨owner, x.name, x.desc⟩) (hd : owner ≠ "java/lang/invoke/MethodHandle" ∧ owner ≠ "java/lang/invoke/VarHandle" ∧ (parseMethodDescriptor x.desc).map (fun d => d.parameters.length) = some n) (hRm : F' + 1 ≤ F ∧ 8 + (nl + 11) + L' ≤ L) :
    ∀ (rm : Room) (mc ms : Nat), rm.cells = mc → rm.slots = ms → rm.frames = F' → rm.locals = L' → va_CU (geR G) (geS G) G.2.1.2.2.1 own C owner idx x y b nl ret (ws_ y b nl ret) rm mc ms n := by
  intro rm mc ms e1 e2 e3 e4
  refine va_cwU n hG.hts hT rfl e1 e2 hyx hd ?_
  rw [e3, e4, hG.frames, hG.locals]
  exact hRm
theorem cuO (hG : Gk Γ G own cc F L rt0) {C owner : String} {x y : MethodName} {b b0 : ByteArray} {nl m0 F' L' idx n : Nat} {ret r0 : Option FieldType} (hT : GoodIn lw_all (va_wsO own idx C owner x y (ws_ y b nl ret))) (h0 : Cond.code ⟨owner, x.name, x.desc⟩ b0 m0 r0 ∈ lw_all) (hd : owner ≠ "java/lang/invoke/MethodHandle" ∧ owner ≠ "java/lang/invoke/VarHandle" ∧ (parseMethodDescriptor x.desc).map (fun d => d.parameters.length) = some n) (hRm : F' + 1 ≤ F ∧ 8 + (nl + 11) + L' ≤ L) :
    ∀ (rm : Room) (mc ms : Nat), rm.cells = mc → rm.slots = ms → rm.frames = F' → rm.locals = L' → va_CU (geR G) (geS G) G.2.1.2.2.1 own C owner idx x y b nl ret (ws_ y b nl ret) rm mc ms n := by
  intro rm mc ms e1 e2 e3 e4
  refine va_cwO n hG.hts hT rfl e1 e2 h0 hd ?_
  rw [e3, e4, hG.frames, hG.locals]
  exact hRm
theorem cuP (hG : Gk Γ G own cc F L rt0) {C : String} {y z : MethodName} {b : ByteArray} {nl F' L' idx n N : Nat} {ret : Option FieldType} (hl : Cond.methodLink own idx y ∈ lw_all) (hs : Cond.sameMethod y.cls y.cls y.name y.desc ∈ lw_all) (hp : Cond.privateMethod y ∈ lw_tbl) (hi : Cond.instanceMethod y ∈ lw_all) (hc : Cond.code y b nl ret ∈ lw_all) (hini : Cond.initialized y.cls ∈ lw_all) (hins : Cond.instantiable C N ∈ lw_all) (hz : Cond.selects C z z ∈ lw_all) (hzc : z.cls = y.cls)
    (hd : y.cls ≠ "java/lang/invoke/MethodHandle" ∧ y.cls ≠ "java/lang/invoke/VarHandle" ∧ (parseMethodDescriptor y.desc).map (fun d => d.parameters.length) = some n) (hRm : F' + 1 ≤ F ∧ 8 + (nl + 11) + L' ≤ L) :
    ∀ (rm : Room) (mc ms : Nat), rm.cells = mc → rm.slots = ms → rm.frames = F' → rm.locals = L' → va_CU (geR G) (geS G) G.2.1.2.2.1 own C y.cls idx y y b nl ret (ws_ y b nl ret) rm mc ms n := by
  intro rm mc ms e1 e2 e3 e4
  have hsel : (Cond.selects C y y).before G.2.1.2.2.1 (geS G) = true := by
    obtain ⟨a0, h⟩ := hG.ok.1
    exact word_at hG.cx.1 (Or.inl rfl) (sel_private ⟨hd.1, hd.2.1⟩ (h _ (lw_all_tbl hins)) (h _ hp) (h _ (lw_all_tbl hi)) (h _ (lw_all_tbl hz)) hzc)
  refine ⟨⟨e1, e2, ?_, ?_, pay_in hG.hts (lw_meth hc), List.mem_cons_self⟩, hG.hts _ hc, hG.hts _ hini, ⟨hd.1, hd.2.1⟩, fun sig h => ?_, hG.hts _ hl, hG.hts _ hs, va_Decl.of (hG.hts _ hi) (hG.hts _ hc), hsel, hG.hts _ hi⟩
  · rw [e3, hG.frames]; exact hRm.1
  · rw [e4, hG.locals]; exact hRm.2
  · have h2 := hd.2.2
    rw [h] at h2
    exact (Option.some.inj h2).symm
theorem VM.callX (hG : Gk Γ G own cc F L rt0) {α : Type} {f : Nat → Mr α} {k : α → Mr β} {ev : α → Option Value} {kd : Nat} {C : String} {T : u_T} {N : Nat} {y : MethodName} {b : ByteArray} {nl F' L' idx : Nat} {ret : Option FieldType} {r : Option Nat} (As : List Value) {rest : List Value} (n : Nat)
    (hC : ∀ h, Ct Γ y (ws_ y b nl ret) F' L' ev (f h) (.ref h :: As)) (hw : GoodIn lw_all (va_wsSU own idx y (ws_ y b nl ret))) (hc : vwAll[kd - 1]? = some (C, T, N)) (h0 : 0 < kd ∧ kd < 40)
    (hd2 : y.name ≠ "<init>" ∧ (parseMethodDescriptor y.desc).map (fun d => d.parameters.length) = some n) (hRm : F' + 1 ≤ F ∧ 8 + (nl + 11) + L' ≤ L) (hn : As.length = n) (hst : st = As.reverse ++ va_rf r :: rest) (hrest : (rest.map fun v => v.category).sum ≤ 8) (hd : decode cc pc = .ok (.invokespecial idx, 3))
    (kk : ∀ x σ1, VM Γ G QB (k x) σ1 (pc + 3) lv ((ev x).toList ++ rest)) : VM Γ G QB (bd (rc kd r) fun h => bd (f h) k) σ pc lv st := by
  intro y' σ' hm
  obtain ⟨h, e1, e2⟩ := run_rd_inv hm
  obtain ⟨q, rfl, e3⟩ := Option.bind_eq_some_iff.mp e1
  split at e3
  · rename_i hk
    cases e3
    refine VM.call hG (ev := ev) (rest := rest) (args := (Value.ref h :: As).toArray) (fun x σ1 h1 H locs cells slots ls hW hF hls hf => ?_) kk y' σ' e2
    have hR1 : F' + 1 ≤ G.1.2.2.frames ∧ 8 + (nl + 11) + L' ≤ G.1.2.2.locals := by
      have e1 := hG.frames
      have e2 := hG.locals
      rw [← e1, ← e2] at hRm
      exact hRm
    exact va_runSU (As := As) (rest := rest) (hG.vk.1 _ _ hc).2 ⟨hG.exec, hG.bytes, hG.maxL, hG.own, hG.hts⟩ (hC h σ x σ1 h1) (va_cwSU n hG.hts hw rfl rfl rfl hd2 hR1) ⟨Pc_blind, hW.recv hG hk h0 hc, fun U hU hw2 => Pc_of hG hW hF U hU hw2⟩ rfl hn hls hst (lv_room hrest) hd hf
  · cases e3
theorem v_callUi (hG : Gk Γ G own cc F L rt0) {f : Nat → Mr Int32} {k : Int32 → Mr β} {kd : Nat} {C owner : String} {T : u_T} {N : Nat} {x y : MethodName} {b : ByteArray} {nl F' L' idx : Nat} {ret : Option FieldType} {r : Option Nat} (As : List Value) {rest : List Value} (n : Nat)
    (hC : ∀ h, Ct Γ y (ws_ y b nl ret) F' L' evI (f h) (.ref h :: As)) (hc : vwAll[kd - 1]? = some (C, T, N)) (h0 : 0 < kd ∧ kd < 40)
    (hcu : ∀ (rm : Room) (mc ms : Nat), rm.cells = mc → rm.slots = ms → rm.frames = F' → rm.locals = L' → va_CU (geR G) (geS G) G.2.1.2.2.1 own C owner idx x y b nl ret (ws_ y b nl ret) rm mc ms n) (hn : As.length = n) (hst : st = As.reverse ++ va_rf r :: rest) (hrest : (rest.map fun v => v.category).sum ≤ 8) (hd : decode cc pc = .ok (.invokevirtual idx, 3))
    (kk : ∀ x σ1, VM Γ G QB (k x) σ1 (pc + 3) lv (.int x :: rest)) : VM Γ G QB (bd (rc kd r) fun h => bd (f h) k) σ pc lv st := VM.callU hG As n hC hc h0 hcu hn hst hrest hd kk
theorem v_callXi (hG : Gk Γ G own cc F L rt0) {f : Nat → Mr Int32} {k : Int32 → Mr β} {kd : Nat} {C : String} {T : u_T} {N : Nat} {y : MethodName} {b : ByteArray} {nl F' L' idx : Nat} {ret : Option FieldType} {r : Option Nat} (As : List Value) {rest : List Value} (n : Nat)
    (hC : ∀ h, Ct Γ y (ws_ y b nl ret) F' L' evI (f h) (.ref h :: As)) (hw : GoodIn lw_all (va_wsSU own idx y (ws_ y b nl ret))) (hc : vwAll[kd - 1]? = some (C, T, N)) (h0 : 0 < kd ∧ kd < 40)
    (hd2 : y.name ≠ "<init>" ∧ (parseMethodDescriptor y.desc).map (fun d => d.parameters.length) = some n) (hRm : F' + 1 ≤ F ∧ 8 + (nl + 11) + L' ≤ L) (hn : As.length = n) (hst : st = As.reverse ++ va_rf r :: rest) (hrest : (rest.map fun v => v.category).sum ≤ 8) (hd : decode cc pc = .ok (.invokespecial idx, 3))
    (kk : ∀ x σ1, VM Γ G QB (k x) σ1 (pc + 3) lv (.int x :: rest)) : VM Γ G QB (bd (rc kd r) fun h => bd (f h) k) σ pc lv st := VM.callX hG As n hC hw hc h0 hd2 hRm hn hst hrest hd kk
theorem v_callUu (hG : Gk Γ G own cc F L rt0) {f : Nat → Mr Unit} {k : Unit → Mr β} {kd : Nat} {C owner : String} {T : u_T} {N : Nat} {x y : MethodName} {b : ByteArray} {nl F' L' idx : Nat} {ret : Option FieldType} {r : Option Nat} (As : List Value) {rest : List Value} (n : Nat)
    (hC : ∀ h, Ct Γ y (ws_ y b nl ret) F' L' evU (f h) (.ref h :: As)) (hc : vwAll[kd - 1]? = some (C, T, N)) (h0 : 0 < kd ∧ kd < 40)
    (hcu : ∀ (rm : Room) (mc ms : Nat), rm.cells = mc → rm.slots = ms → rm.frames = F' → rm.locals = L' → va_CU (geR G) (geS G) G.2.1.2.2.1 own C owner idx x y b nl ret (ws_ y b nl ret) rm mc ms n) (hn : As.length = n) (hst : st = As.reverse ++ va_rf r :: rest) (hrest : (rest.map fun v => v.category).sum ≤ 8) (hd : decode cc pc = .ok (.invokevirtual idx, 3))
    (kk : ∀ x σ1, VM Γ G QB (k x) σ1 (pc + 3) lv (rest)) : VM Γ G QB (bd (rc kd r) fun h => bd (f h) k) σ pc lv st := VM.callU hG As n hC hc h0 hcu hn hst hrest hd kk
theorem v_callXu (hG : Gk Γ G own cc F L rt0) {f : Nat → Mr Unit} {k : Unit → Mr β} {kd : Nat} {C : String} {T : u_T} {N : Nat} {y : MethodName} {b : ByteArray} {nl F' L' idx : Nat} {ret : Option FieldType} {r : Option Nat} (As : List Value) {rest : List Value} (n : Nat)
    (hC : ∀ h, Ct Γ y (ws_ y b nl ret) F' L' evU (f h) (.ref h :: As)) (hw : GoodIn lw_all (va_wsSU own idx y (ws_ y b nl ret))) (hc : vwAll[kd - 1]? = some (C, T, N)) (h0 : 0 < kd ∧ kd < 40)
    (hd2 : y.name ≠ "<init>" ∧ (parseMethodDescriptor y.desc).map (fun d => d.parameters.length) = some n) (hRm : F' + 1 ≤ F ∧ 8 + (nl + 11) + L' ≤ L) (hn : As.length = n) (hst : st = As.reverse ++ va_rf r :: rest) (hrest : (rest.map fun v => v.category).sum ≤ 8) (hd : decode cc pc = .ok (.invokespecial idx, 3))
    (kk : ∀ x σ1, VM Γ G QB (k x) σ1 (pc + 3) lv (rest)) : VM Γ G QB (bd (rc kd r) fun h => bd (f h) k) σ pc lv st := VM.callX hG As n hC hw hc h0 hd2 hRm hn hst hrest hd kk
theorem v_callUr (hG : Gk Γ G own cc F L rt0) {f : Nat → Mr (Option Nat)} {k : (Option Nat) → Mr β} {kd : Nat} {C owner : String} {T : u_T} {N : Nat} {x y : MethodName} {b : ByteArray} {nl F' L' idx : Nat} {ret : Option FieldType} {r : Option Nat} (As : List Value) {rest : List Value} (n : Nat)
    (hC : ∀ h, Ct Γ y (ws_ y b nl ret) F' L' evR (f h) (.ref h :: As)) (hc : vwAll[kd - 1]? = some (C, T, N)) (h0 : 0 < kd ∧ kd < 40)
    (hcu : ∀ (rm : Room) (mc ms : Nat), rm.cells = mc → rm.slots = ms → rm.frames = F' → rm.locals = L' → va_CU (geR G) (geS G) G.2.1.2.2.1 own C owner idx x y b nl ret (ws_ y b nl ret) rm mc ms n) (hn : As.length = n) (hst : st = As.reverse ++ va_rf r :: rest) (hrest : (rest.map fun v => v.category).sum ≤ 8) (hd : decode cc pc = .ok (.invokevirtual idx, 3))
    (kk : ∀ x σ1, VM Γ G QB (k x) σ1 (pc + 3) lv (va_rf x :: rest)) : VM Γ G QB (bd (rc kd r) fun h => bd (f h) k) σ pc lv st := VM.callU hG As n hC hc h0 hcu hn hst hrest hd kk
theorem v_callXr (hG : Gk Γ G own cc F L rt0) {f : Nat → Mr (Option Nat)} {k : (Option Nat) → Mr β} {kd : Nat} {C : String} {T : u_T} {N : Nat} {y : MethodName} {b : ByteArray} {nl F' L' idx : Nat} {ret : Option FieldType} {r : Option Nat} (As : List Value) {rest : List Value} (n : Nat)
    (hC : ∀ h, Ct Γ y (ws_ y b nl ret) F' L' evR (f h) (.ref h :: As)) (hw : GoodIn lw_all (va_wsSU own idx y (ws_ y b nl ret))) (hc : vwAll[kd - 1]? = some (C, T, N)) (h0 : 0 < kd ∧ kd < 40)
    (hd2 : y.name ≠ "<init>" ∧ (parseMethodDescriptor y.desc).map (fun d => d.parameters.length) = some n) (hRm : F' + 1 ≤ F ∧ 8 + (nl + 11) + L' ≤ L) (hn : As.length = n) (hst : st = As.reverse ++ va_rf r :: rest) (hrest : (rest.map fun v => v.category).sum ≤ 8) (hd : decode cc pc = .ok (.invokespecial idx, 3))
    (kk : ∀ x σ1, VM Γ G QB (k x) σ1 (pc + 3) lv (va_rf x :: rest)) : VM Γ G QB (bd (rc kd r) fun h => bd (f h) k) σ pc lv st := VM.callX hG As n hC hw hc h0 hd2 hRm hn hst hrest hd kk
/-! arrays of arrays -/
theorem outerC_read (c : ClassId) (N h0 : Nat) : ∀ i, i ≤ N → ∀ j, j < N → (Jvm.Free.Multi.outerC c N h0 i).slots[j]? = some (if j < i then .ref (h0 + 1 + j) else .null)
  | 0, _, j, hj => by simp [Jvm.Free.Multi.outerC, hj]
  | i + 1, hi, j, hj => by
    have ih := outerC_read c N h0 i (by omega) j hj
    have hz := (Jvm.Free.Multi.outerC_facts c N h0 i).2.2
    unfold Jvm.Free.Multi.outerC
    by_cases h : j = i
    · subst h
      simp [Cell.setSlot, hz, hj]
    · rw [show (Cell.setSlot (Jvm.Free.Multi.outerC c N h0 i) i (.ref (h0 + 1 + i))).slots[j]? = (Jvm.Free.Multi.outerC c N h0 i).slots[j]? by simp [Cell.setSlot, Array.getElem?_setIfInBounds, Ne.symm h], ih]
      by_cases h2 : j < i
      · rw [if_pos h2, if_pos (by omega)]
      · rw [if_neg h2, if_neg (by omega)]
theorem cell_arrV {cell : Cell} {c : ClassId} {N : Nat} {f : Nat → Value} (h1 : cell.cls = c) (h2 : cell.vm = .none) (h3 : cell.slots.size = N) (h4 : ∀ j, j < N → cell.slots[j]? = some (f j)) (h5 : cell.monitor = {}) (h6 : cell.hash = none) : cell = arrV c N f := by
  obtain ⟨c', s', m', h', v'⟩ := cell
  dsimp only at h1 h2 h3 h4 h5 h6
  subst h1 h2 h5 h6
  unfold arrV
  congr 1
  apply Array.ext_getElem?
  intro j
  by_cases hj : j < N
  · rw [h4 j hj]; simp [hj]
  · rw [Array.getElem?_eq_none (by omega), Array.getElem?_eq_none (by simp; omega)]
theorem Wd.rows {H H1 : Heap} {k m n : Nat} (hW : Wd Γ σ H) (h0 : 41 ≤ k ∧ k < 52) (z : H1.size = H.size + n) (oq : ∀ p, p < H.size → H1[p]? = H[p]?) (new : ∀ j, j < n → H1[H.size + j]? = some (arrV (gaA Γ k) m (fun _ => defaultValue (tyA k)))) : Wd Γ (hRows k m n σ) H1 := by
  obtain ⟨w1, w2, w3, w4⟩ := hW
  refine ⟨by rw [hRows_sz, z, w1], by rw [hRows_sz]; omega, by rw [hRows_S]; exact w3, fun p hp => ?_⟩
  by_cases h : hSz σ ≤ p ∧ p < hSz σ + n
  · obtain ⟨j, hj, rfl⟩ : ∃ j, j < n ∧ p = hSz σ + j := ⟨p - hSz σ, by omega, by omega⟩
    obtain ⟨a1, a2, a3, a4, a5⟩ := hRows_in k m n σ j hj
    refine Or.inr (Or.inl ⟨by rw [a1]; exact h0.1, by rw [a1]; omega, by omega, ?_⟩)
    unfold wcA
    rw [a1, a2, w1, new j hj]
    congr 2
    funext i
    unfold aV
    rw [← w1, a3, a4, a5]
    rcases (show k = 41 ∨ k = 42 ∨ k = 43 ∨ k = 44 ∨ k = 45 ∨ k = 46 ∨ k = 47 ∨ k = 48 ∨ k = 49 ∨ k = 50 ∨ k = 51 by omega) with rfl | rfl | rfl | rfl | rfl | rfl | rfl | rfl | rfl | rfl | rfl <;> rfl
  · obtain ⟨a1, a2, a3, a4, a5⟩ := hRows_out k m n σ p (by omega)
    rw [a1] at hp
    exact wC.kept a1 a2 a3 a4 a5 (oq p (w4 p hp).lt) (w4 p hp)
theorem outerC_mh (c : ClassId) (N h0 : Nat) : ∀ i, (Jvm.Free.Multi.outerC c N h0 i).monitor = {} ∧ (Jvm.Free.Multi.outerC c N h0 i).hash = none
  | 0 => ⟨rfl, rfl⟩
  | i + 1 => outerC_mh c N h0 i
theorem v_n2 (hG : Gk Γ G own cc F L rt0) {ko ki : Nat} {n k : Int32} {g : Nat → Mr β} {nm : String} {index : Nat} (h0 : 46 ≤ ko ∧ ko < 52 ∧ 41 ≤ ki ∧ ki < 52) (hty : tyA ko = .array (tyA ki)) (hcl : Cond.classLink own index nm ∈ lw_all) (hnm : nm = "[" ++ (FieldType.array (tyA ki)).toString) (hover : Cond.arrayOver (.array (tyA ki)) ∈ lw_tbl) (harr : Cond.arrayClass (tyA ki) ∈ lw_all) (hd : decode cc pc = .ok (.multianewarray index 2, 4))
    (kk : ∀ q σ1, VM Γ G QB (g q) σ1 (pc + 4) lv (.ref q :: st)) : VM Γ G QB (bd (n2 ko ki n k) g) σ pc lv (.int k :: .int n :: st) := by
  intro y σ' hm hr H locs cells slots ls hW hF hcs hl
  obtain ⟨h1, h2⟩ := run_wr_inv hm
  obtain ⟨hn, hN, hk, hM⟩ := of_decide_eq_true h1
  generalize hNn : n.toNatClampNeg = N at *
  generalize hMm : k.toNatClampNeg = M at *
  have hle := run_le h2
  have l1 := hle.1
  have l2 := hle.2.1
  rw [hRows_sz, hSz_new] at l1
  rw [hRows_sl, hSl_new] at l2
  subst hnm
  have hov : (Cond.arrayOver (.array (tyA ki))).before G.2.1.2.2.1 (geS G) = true := by
    obtain ⟨a0, h⟩ := hG.ok.1
    have h2 : (Cond.arrayOver (.array (tyA ki))).before a0 (Γ.1.1.setVm (geS G).vm) = true := (Cond.arrayOver_setVmC hG.cx.1.alike _).trans (h _ hover)
    exact h2
  have hcb : componentBytes (tyA ki) ≤ 8 := by
    rcases (show ki = 41 ∨ ki = 42 ∨ ki = 43 ∨ ki = 44 ∨ ki = 45 ∨ ki = 46 ∨ ki = 47 ∨ ki = 48 ∨ ki = 49 ∨ ki = 50 ∨ ki = 51 by omega) with rfl | rfl | rfl | rfl | rfl | rfl | rfl | rfl | rfl | rfl | rfl <;> decide
  have hdf : fits (tyA ki) (defaultValue (tyA ki)) = true ∧ (defaultValue (tyA ki)).isDefault = true := by
    rcases (show ki = 41 ∨ ki = 42 ∨ ki = 43 ∨ ki = 44 ∨ ki = 45 ∨ ki = 46 ∨ ki = 47 ∨ ki = 48 ∨ ki = 49 ∨ ki = 50 ∨ ki = 51 by omega) with rfl | rfl | rfl | rfl | rfl | rfl | rfl | rfl | rfl | rfl | rfl <;> exact ⟨by decide, by decide⟩
  have hb2 : M * componentBytes (tyA ki) ≤ 536870912 := Nat.le_trans (Nat.mul_le_mul hM hcb) (by decide)
  intro T hT X
  have hcl2 : (Cond.classLink own index ("[" ++ (FieldType.array (tyA ki)).toString)).before G.2.1.2.2.1 (geS G) = true := hG.hts _ hcl
  obtain ⟨vm₁, cA, comp, hwm, hfA, hfC, -, -, X1, step⟩ := X.multianewarray2F hG.exec (own := own) (index := index) (ty := tyA ki) hG.own hcl2 hov (hG.hts _ harr)
    (g := F0 (geM G) pc ls (.int k :: .int n :: st)) rfl (by rw [hG.bytes]; exact hd) (n := n) (k := k) (rest := st) rfl hn hk (by rw [hNn]; omega) (by rw [hMm]; exact hb2) (by rw [hMm]; omega) hdf.1 hdf.2 (show _ ≤ (geR G).cells by rw [hNn]; omega) (show _ ≤ (geR G).slots by rw [hNn, hMm]; omega)
  rw [hNn, hMm] at X1 step
  have hcA : cA = gaA Γ ko := by
    have h := (hG.vk.2 _ _ (tysAt ko (by omega) (by omega))).2
    rw [hty] at h
    exact Option.some.inj (hfA.symm.trans h)
  have hcC : comp = gaA Γ ki := by
    have h := (hG.vk.2 _ _ (tysAt ki (by omega) (by omega))).2
    have h : (geS G).vm.findClass ("[" ++ (tyA ki).toString) = some (gaA Γ ki) := by
      rcases (show ki = 41 ∨ ki = 42 ∨ ki = 43 ∨ ki = 44 ∨ ki = 45 ∨ ki = 46 ∨ ki = 47 ∨ ki = 48 ∨ ki = 49 ∨ ki = 50 ∨ ki = 51 by omega) with rfl | rfl | rfl | rfl | rfl | rfl | rfl | rfl | rfl | rfl | rfl <;> first | exact h | (obtain ⟨_, _, _, _, _, h5⟩ := h; exact h5)
    exact Option.some.inj (hfC.symm.trans h)
  subst hcA
  subst hcC
  obtain ⟨f1, f2, f3, f4⟩ := Jvm.Free.Multi.fill_facts (T.setVm vm₁) (gaA Γ ko) (gaA Γ ki) N M (defaultValue (tyA ki)) N
  obtain ⟨o1, o2, o3⟩ := Jvm.Free.Multi.outerC_facts (gaA Γ ko) N (T.setVm vm₁).heap.size N
  have f5 := fun a ha => Jvm.Free.Multi.fill_old (T.setVm vm₁) (gaA Γ ko) (gaA Γ ki) N M (defaultValue (tyA ki)) (a := a) ha N
  have f6 := Jvm.Free.Multi.fill_inner (T.setVm vm₁) (gaA Γ ko) (gaA Γ ki) N M (defaultValue (tyA ki)) N
  have hTH : (T.setVm vm₁).heap = H := hT
  rw [hTH] at f1 f2 f5 f6 o1 o2 o3
  generalize hT2 : Jvm.Free.Multi.fill (T.setVm vm₁) (gaA Γ ko) (gaA Γ ki) N M (defaultValue (tyA ki)) N = T2 at *
  have hout : Jvm.Free.Multi.outerC (gaA Γ ko) N H.size N = arrV (gaA Γ ko) N (fun j => va_rf (if j < N then some (H.size + 1 + j) else none)) := by
    refine cell_arrV o1 o2 o3 (fun j hj => ?_) ?_ ?_
    · rw [outerC_read _ _ _ N (Nat.le_refl _) j hj, if_pos hj, if_pos hj]; rfl
    · exact (outerC_mh _ _ _ _).1
    · exact (outerC_mh _ _ _ _).2
  have hs1 : H.size < T2.heap.size := by omega
  generalize hHm : H.push (arrV (gaA Γ ko) N (fun j => va_rf (if j < N then some (H.size + 1 + j) else none))) = Hm
  have zm : Hm.size = H.size + 1 := by rw [← hHm, Array.size_push]
  have em : Hm[H.size]? = some (arrV (gaA Γ ko) N (fun j => va_rf (if j < N then some (H.size + 1 + j) else none))) := by rw [← hHm, Array.getElem?_push_size]
  have om : ∀ q : Nat, q < H.size → Hm[q]? = H[q]? := fun q hq => by rw [← hHm, Array.getElem?_push, if_neg (Nat.ne_of_lt hq)]
  have W1 : Wd Γ (hNew σ ko N N (fun _ => 0) (fun j => if j < N then some (hSz σ + 1 + j) else none)) Hm := hW.mk zm om (fun _ => Or.inr (Or.inl ⟨by rw [hK_new, hW.1, up1_s]; omega, by rw [hK_new, hW.1, up1_s]; omega, by rw [← hW.1]; exact hW.2.1, by
    unfold wcA
    rw [hK_new, hN_new, hW.1, up1_s, up1_s, aV_new _ hW.1.symm, em]
    congr 2
    funext j
    rw [if_neg (show ¬ ko < 44 by omega), if_neg (show ¬ ko = 44 by omega), if_neg (show ¬ ko = 45 by omega)]⟩))
  have W2 : Wd Γ (hRows ki M N (hNew σ ko N N (fun _ => 0) (fun j => if j < N then some (hSz σ + 1 + j) else none))) T2.heap := by
    refine W1.rows ⟨h0.2.2.1, h0.2.2.2⟩ (by rw [f1, zm]) (fun p hp => ?_) (fun j hj => ?_)
    · by_cases hpz : p = H.size
      · rw [hpz, f2, em, hout]
      · have hp2 : p < H.size := by rw [zm] at hp; omega
        rw [f5 p hp2, om p hp2]
    · rw [zm, f6 j hj]
      exact congrArg some (arrV_new _ _ _)
  have K := kk _ _ y σ' h2 hr T2.heap locs (cells + 1 + N) (slots + N + N * M) ls W2 (hF.mk hG (by omega) (fun q hq => f5 q hq)) (by rw [hRows_sz, hRows_sl, hSz_new, hSl_new]; omega) hl
  rw [hW.1] at K
  obtain ⟨t, b1, b2⟩ := K T2 rfl X1
  refine ⟨t, step t ?_, b2⟩
  rw [hT]
  exact b1
end VR
theorem lw_U {own : String} {idx : Nat} {C owner : String} {x y : MethodName} {b : ByteArray} {L : Nat} {r : Option FieldType} (h1 : Cond.methodLink own idx x ∈ lw_all) (h2 : Cond.sameMethod x.cls owner x.name x.desc ∈ lw_all) (h3 : Cond.selects C x y ∈ lw_all) (h4 : Cond.instanceMethod y ∈ lw_all) (h5 : Cond.initialized y.cls ∈ lw_all) (h6 : Cond.code y b L r ∈ lw_all) : GoodIn lw_all (va_wsU own idx C owner x y (ws_ y b L r)) := by
  refine lw_app ?_ (lw_meth h6)
  intro w hw
  simp only [List.mem_cons, List.not_mem_nil, or_false] at hw
  rcases hw with e | e | e | e | e
  · rw [e]; exact h1
  · rw [e]; exact h2
  · rw [e]; exact h3
  · rw [e]; exact h4
  · rw [e]; exact h5
theorem lw_O {own : String} {idx : Nat} {C owner : String} {x y : MethodName} {b : ByteArray} {L : Nat} {r : Option FieldType} (h1 : Cond.methodLink own idx x ∈ lw_all) (h2 : Cond.sameMethod x.cls owner x.name x.desc ∈ lw_all) (h7 : Cond.instanceMethod ⟨owner, x.name, x.desc⟩ ∈ lw_all) (h3 : Cond.selects C x y ∈ lw_all) (h4 : Cond.instanceMethod y ∈ lw_all) (h5 : Cond.initialized y.cls ∈ lw_all) (h6 : Cond.code y b L r ∈ lw_all) : GoodIn lw_all (va_wsO own idx C owner x y (ws_ y b L r)) := by
  refine lw_app ?_ (lw_meth h6)
  intro w hw
  simp only [List.mem_cons, List.not_mem_nil, or_false] at hw
  rcases hw with e | e | e | e | e | e
  · rw [e]; exact h1
  · rw [e]; exact h2
  · rw [e]; exact h7
  · rw [e]; exact h3
  · rw [e]; exact h4
  · rw [e]; exact h5
theorem lw_SU {own : String} {idx : Nat} {y : MethodName} {b : ByteArray} {L : Nat} {r : Option FieldType} (h1 : Cond.methodLink own idx y ∈ lw_all) (h2 : Cond.sameMethod y.cls y.cls y.name y.desc ∈ lw_all) (h3 : Cond.superclass own y.cls ∈ lw_all) (h4 : Cond.instanceMethod y ∈ lw_all) (h5 : Cond.initialized y.cls ∈ lw_all) (h6 : Cond.code y b L r ∈ lw_all) : GoodIn lw_all (va_wsSU own idx y (ws_ y b L r)) := by
  refine lw_app ?_ (lw_meth h6)
  intro w hw
  simp only [List.mem_cons, List.not_mem_nil, or_false] at hw
  rcases hw with e | e | e | e | e
  · rw [e]; exact h1
  · rw [e]; exact h2
  · rw [e]; exact h3
  · rw [e]; exact h4
  · rw [e]; exact h5
section VR2
variable {Γ : Ga} {G : Ge} {own : String} {cc : ByteArray} {F L : Nat} {rt0 : Option FieldType} {β : Type} {QB : β → Hp → State → Prop} {mm : Mr β} {σ : Hp} {pc : Nat} {lv : List (Nat × Value)} {st : List Value}
theorem Gk.nwM (hG : Gk Γ G own cc F L rt0) {a : String} {i : Nat} {y : MethodName} {h : String} (hw : Cond.methodLinkNest a i y h ∈ lw_tbl) : va_Nw (Cond.methodLinkNest a i y h) (geS G) := hG.nw hw rfl fun hW hZ => va_Nw.warmM hW hZ
theorem VM.callVN (hG : Gk Γ G own cc F L rt0) {α : Type} {f : Nat → Mr α} {k : α → Mr β} {ev : α → Option Value} {kd : Nat} {C host : String} {T : u_T} {N : Nat} {y : MethodName} {b : ByteArray} {nl F' L' idx : Nat} {ret : Option FieldType} {r : Option Nat} (As : List Value) {rest : List Value} (n : Nat)
    (hC : ∀ h, Ct Γ y (ws_ y b nl ret) F' L' ev (f h) (.ref h :: As)) (hc1 : Cond.code y b nl ret ∈ lw_all) (hlk : Cond.methodLinkNest own idx y host ∈ lw_tbl) (hini : Cond.initialized y.cls ∈ lw_all) (him : Cond.instanceMethod y ∈ lw_all) (hsel : Cond.selects C y y ∈ lw_all) (hc : vwAll[kd - 1]? = some (C, T, N)) (h0 : 0 < kd ∧ kd < 40)
    (hd2 : y.cls ≠ "java/lang/invoke/MethodHandle" ∧ y.cls ≠ "java/lang/invoke/VarHandle" ∧ (parseMethodDescriptor y.desc).map (fun d => d.parameters.length) = some n) (hRm : F' + 1 ≤ F ∧ 8 + (nl + 11) + L' ≤ L) (hn : As.length = n) (hst : st = As.reverse ++ va_rf r :: rest) (hrest : (rest.map fun v => v.category).sum ≤ 8) (hd : decode cc pc = .ok (.invokevirtual idx, 3))
    (kk : ∀ x σ1, VM Γ G QB (k x) σ1 (pc + 3) lv ((ev x).toList ++ rest)) : VM Γ G QB (bd (rc kd r) fun h => bd (f h) k) σ pc lv st := by
  intro y' σ' hm
  obtain ⟨h, e1, e2⟩ := run_rd_inv hm
  obtain ⟨q, rfl, e3⟩ := Option.bind_eq_some_iff.mp e1
  split at e3
  · rename_i hk
    cases e3
    refine VM.call hG (ev := ev) (rest := rest) (args := (Value.ref h :: As).toArray) (fun x σ1 h1 H locs cells slots ls hW hF hls hf => ?_) kk y' σ' e2
    have hR1 : F' + 1 ≤ G.1.2.2.frames ∧ 8 + (nl + 11) + L' ≤ G.1.2.2.locals := by
      have e1 := hG.frames
      have e2 := hG.locals
      rw [← e1, ← e2] at hRm
      exact hRm
    exact va_runVN (As := As) (rest := rest) ⟨hG.exec, hG.bytes, hG.maxL, hG.own, hG.hts⟩ (hC h σ x σ1 h1) ⟨va_cnB n hG.hts (lw_meth hc1) rfl rfl rfl (hG.nwM hlk) (hG.hts _ hini) hd2 hR1, hG.hts _ him, hG.hts _ hsel⟩ ⟨Pc_blind, hW.recv hG hk h0 hc, fun U hU hw2 => Pc_of hG hW hF U hU hw2⟩ rfl hn hls hst (lv_room hrest) hd hf
  · cases e3
theorem VM.callSN (hG : Gk Γ G own cc F L rt0) {α : Type} {f : Mr α} {k : α → Mr β} {ev : α → Option Value} {host : String} {y : MethodName} {b : ByteArray} {nl F' L' idx : Nat} {ret : Option FieldType} (As : List Value) {rest : List Value} (n : Nat)
    (hC : Ct Γ y (ws_ y b nl ret) F' L' ev f As) (hc1 : Cond.code y b nl ret ∈ lw_all) (hlk : Cond.methodLinkNest own idx y host ∈ lw_tbl) (hini : Cond.initialized y.cls ∈ lw_all) (hst0 : Cond.static y ∈ lw_all)
    (hd2 : y.cls ≠ "java/lang/invoke/MethodHandle" ∧ y.cls ≠ "java/lang/invoke/VarHandle" ∧ (parseMethodDescriptor y.desc).map (fun d => d.parameters.length) = some n) (hRm : F' + 1 ≤ F ∧ 8 + (nl + 11) + L' ≤ L) (hn : As.length = n) (hst : st = As.reverse ++ rest) (hrest : (rest.map fun v => v.category).sum ≤ 8) (hd : decode cc pc = .ok (.invokestatic idx, 3))
    (kk : ∀ x σ1, VM Γ G QB (k x) σ1 (pc + 3) lv ((ev x).toList ++ rest)) : VM Γ G QB (bd f k) σ pc lv st := by
  refine VM.call hG (ev := ev) (rest := rest) (args := As.toArray) (fun x σ1 h1 H locs cells slots ls hW hF hls hf => ?_) kk
  have hR1 : F' + 1 ≤ G.1.2.2.frames ∧ 8 + (nl + 11) + L' ≤ G.1.2.2.locals := by
    have e1 := hG.frames
    have e2 := hG.locals
    rw [← e1, ← e2] at hRm
    exact hRm
  exact va_runSN (As := As) (rest := rest) ⟨hG.exec, hG.bytes, hG.maxL, hG.own, hG.hts⟩ (hC σ x σ1 h1) ⟨va_cnB n hG.hts (lw_meth hc1) rfl rfl rfl (hG.nwM hlk) (hG.hts _ hini) hd2 hR1, hG.hts _ hst0, trivial⟩ ⟨Pc_blind, fun U hU hw2 => Pc_of hG hW hF U hU hw2⟩ rfl hn hls hst (lv_room hrest) hd hf
theorem v_callIN (hG : Gk Γ G own cc F L rt0) {f : Nat → Mr Unit} {k : Unit → Mr β} {host : String} {y : MethodName} {b : ByteArray} {nl F' L' idx h : Nat} (As : List Value) {rest : List Value} (n : Nat)
    (hC : ∀ h, Ct Γ y (ws_ y b nl none) F' L' evU (f h) (.ref h :: As)) (hc1 : Cond.code y b nl none ∈ lw_all) (hini : Cond.initialized y.cls ∈ lw_all) (hlk : Cond.methodLinkNest own idx y host ∈ lw_tbl) (hin : Cond.instanceMethod y ∈ lw_all) (hy1 : y.name = "<init>")
    (hd2 : y.cls ≠ "java/lang/invoke/MethodHandle" ∧ y.cls ≠ "java/lang/invoke/VarHandle" ∧ (parseMethodDescriptor y.desc).map (fun d => d.parameters.length) = some n) (hRm : F' + 1 ≤ F ∧ 8 + (nl + 11) + L' ≤ L) (hn : As.length = n) (hst : st = As.reverse ++ .ref h :: rest) (hrest : (rest.map fun v => v.category).sum ≤ 8) (hd : decode cc pc = .ok (.invokespecial idx, 3))
    (kk : ∀ x σ1, VM Γ G QB (k x) σ1 (pc + 3) lv rest) : VM Γ G QB (bd (f h) k) σ pc lv st := by
  refine VM.call hG (ev := evU) (rest := rest) (args := (Value.ref h :: As).toArray) (fun x σ1 h1 H locs cells slots ls hW hF hls hf => ?_) kk
  have hR1 : F' + 1 ≤ G.1.2.2.frames ∧ 8 + (nl + 11) + L' ≤ G.1.2.2.locals := by
    have e1 := hG.frames
    have e2 := hG.locals
    rw [← e1, ← e2] at hRm
    exact hRm
  exact va_runIN (As := As) (rest := rest) ⟨hG.exec, hG.bytes, hG.maxL, hG.own, hG.hts⟩ (hC h σ x σ1 h1) ⟨va_cnB n hG.hts (lw_meth hc1) rfl rfl rfl (hG.nwM hlk) (hG.hts _ hini) hd2 hR1, hy1, hG.hts _ hin⟩ ⟨Pc_blind, fun U hU hw2 => Pc_of hG hW hF U hU hw2⟩ rfl hn hls hst (lv_room hrest) hd hf
theorem v_callVNi (hG : Gk Γ G own cc F L rt0) {f : Nat → Mr Int32} {k : Int32 → Mr β} {kd : Nat} {C host : String} {T : u_T} {N : Nat} {y : MethodName} {b : ByteArray} {nl F' L' idx : Nat} {ret : Option FieldType} {r : Option Nat} (As : List Value) {rest : List Value} (n : Nat)
    (hC : ∀ h, Ct Γ y (ws_ y b nl ret) F' L' evI (f h) (.ref h :: As)) (hc1 : Cond.code y b nl ret ∈ lw_all) (hlk : Cond.methodLinkNest own idx y host ∈ lw_tbl) (hini : Cond.initialized y.cls ∈ lw_all) (him : Cond.instanceMethod y ∈ lw_all) (hsel : Cond.selects C y y ∈ lw_all) (hc : vwAll[kd - 1]? = some (C, T, N)) (h0 : 0 < kd ∧ kd < 40)
    (hd2 : y.cls ≠ "java/lang/invoke/MethodHandle" ∧ y.cls ≠ "java/lang/invoke/VarHandle" ∧ (parseMethodDescriptor y.desc).map (fun d => d.parameters.length) = some n) (hRm : F' + 1 ≤ F ∧ 8 + (nl + 11) + L' ≤ L) (hn : As.length = n) (hst : st = As.reverse ++ va_rf r :: rest) (hrest : (rest.map fun v => v.category).sum ≤ 8) (hd : decode cc pc = .ok (.invokevirtual idx, 3))
    (kk : ∀ x σ1, VM Γ G QB (k x) σ1 (pc + 3) lv (.int x :: rest)) : VM Γ G QB (bd (rc kd r) fun h => bd (f h) k) σ pc lv st := VM.callVN hG As n hC hc1 hlk hini him hsel hc h0 hd2 hRm hn hst hrest hd kk
theorem v_callSNi (hG : Gk Γ G own cc F L rt0) {f : Mr Int32} {k : Int32 → Mr β} {host : String} {y : MethodName} {b : ByteArray} {nl F' L' idx : Nat} {ret : Option FieldType} (As : List Value) {rest : List Value} (n : Nat)
    (hC : Ct Γ y (ws_ y b nl ret) F' L' evI f As) (hc1 : Cond.code y b nl ret ∈ lw_all) (hlk : Cond.methodLinkNest own idx y host ∈ lw_tbl) (hini : Cond.initialized y.cls ∈ lw_all) (hst0 : Cond.static y ∈ lw_all)
    (hd2 : y.cls ≠ "java/lang/invoke/MethodHandle" ∧ y.cls ≠ "java/lang/invoke/VarHandle" ∧ (parseMethodDescriptor y.desc).map (fun d => d.parameters.length) = some n) (hRm : F' + 1 ≤ F ∧ 8 + (nl + 11) + L' ≤ L) (hn : As.length = n) (hst : st = As.reverse ++ rest) (hrest : (rest.map fun v => v.category).sum ≤ 8) (hd : decode cc pc = .ok (.invokestatic idx, 3))
    (kk : ∀ x σ1, VM Γ G QB (k x) σ1 (pc + 3) lv (.int x :: rest)) : VM Γ G QB (bd f k) σ pc lv st := VM.callSN hG As n hC hc1 hlk hini hst0 hd2 hRm hn hst hrest hd kk
theorem v_callVNu (hG : Gk Γ G own cc F L rt0) {f : Nat → Mr Unit} {k : Unit → Mr β} {kd : Nat} {C host : String} {T : u_T} {N : Nat} {y : MethodName} {b : ByteArray} {nl F' L' idx : Nat} {ret : Option FieldType} {r : Option Nat} (As : List Value) {rest : List Value} (n : Nat)
    (hC : ∀ h, Ct Γ y (ws_ y b nl ret) F' L' evU (f h) (.ref h :: As)) (hc1 : Cond.code y b nl ret ∈ lw_all) (hlk : Cond.methodLinkNest own idx y host ∈ lw_tbl) (hini : Cond.initialized y.cls ∈ lw_all) (him : Cond.instanceMethod y ∈ lw_all) (hsel : Cond.selects C y y ∈ lw_all) (hc : vwAll[kd - 1]? = some (C, T, N)) (h0 : 0 < kd ∧ kd < 40)
    (hd2 : y.cls ≠ "java/lang/invoke/MethodHandle" ∧ y.cls ≠ "java/lang/invoke/VarHandle" ∧ (parseMethodDescriptor y.desc).map (fun d => d.parameters.length) = some n) (hRm : F' + 1 ≤ F ∧ 8 + (nl + 11) + L' ≤ L) (hn : As.length = n) (hst : st = As.reverse ++ va_rf r :: rest) (hrest : (rest.map fun v => v.category).sum ≤ 8) (hd : decode cc pc = .ok (.invokevirtual idx, 3))
    (kk : ∀ x σ1, VM Γ G QB (k x) σ1 (pc + 3) lv (rest)) : VM Γ G QB (bd (rc kd r) fun h => bd (f h) k) σ pc lv st := VM.callVN hG As n hC hc1 hlk hini him hsel hc h0 hd2 hRm hn hst hrest hd kk
theorem v_callSNu (hG : Gk Γ G own cc F L rt0) {f : Mr Unit} {k : Unit → Mr β} {host : String} {y : MethodName} {b : ByteArray} {nl F' L' idx : Nat} {ret : Option FieldType} (As : List Value) {rest : List Value} (n : Nat)
    (hC : Ct Γ y (ws_ y b nl ret) F' L' evU f As) (hc1 : Cond.code y b nl ret ∈ lw_all) (hlk : Cond.methodLinkNest own idx y host ∈ lw_tbl) (hini : Cond.initialized y.cls ∈ lw_all) (hst0 : Cond.static y ∈ lw_all)
    (hd2 : y.cls ≠ "java/lang/invoke/MethodHandle" ∧ y.cls ≠ "java/lang/invoke/VarHandle" ∧ (parseMethodDescriptor y.desc).map (fun d => d.parameters.length) = some n) (hRm : F' + 1 ≤ F ∧ 8 + (nl + 11) + L' ≤ L) (hn : As.length = n) (hst : st = As.reverse ++ rest) (hrest : (rest.map fun v => v.category).sum ≤ 8) (hd : decode cc pc = .ok (.invokestatic idx, 3))
    (kk : ∀ x σ1, VM Γ G QB (k x) σ1 (pc + 3) lv (rest)) : VM Γ G QB (bd f k) σ pc lv st := VM.callSN hG As n hC hc1 hlk hini hst0 hd2 hRm hn hst hrest hd kk
theorem v_callVNr (hG : Gk Γ G own cc F L rt0) {f : Nat → Mr (Option Nat)} {k : (Option Nat) → Mr β} {kd : Nat} {C host : String} {T : u_T} {N : Nat} {y : MethodName} {b : ByteArray} {nl F' L' idx : Nat} {ret : Option FieldType} {r : Option Nat} (As : List Value) {rest : List Value} (n : Nat)
    (hC : ∀ h, Ct Γ y (ws_ y b nl ret) F' L' evR (f h) (.ref h :: As)) (hc1 : Cond.code y b nl ret ∈ lw_all) (hlk : Cond.methodLinkNest own idx y host ∈ lw_tbl) (hini : Cond.initialized y.cls ∈ lw_all) (him : Cond.instanceMethod y ∈ lw_all) (hsel : Cond.selects C y y ∈ lw_all) (hc : vwAll[kd - 1]? = some (C, T, N)) (h0 : 0 < kd ∧ kd < 40)
    (hd2 : y.cls ≠ "java/lang/invoke/MethodHandle" ∧ y.cls ≠ "java/lang/invoke/VarHandle" ∧ (parseMethodDescriptor y.desc).map (fun d => d.parameters.length) = some n) (hRm : F' + 1 ≤ F ∧ 8 + (nl + 11) + L' ≤ L) (hn : As.length = n) (hst : st = As.reverse ++ va_rf r :: rest) (hrest : (rest.map fun v => v.category).sum ≤ 8) (hd : decode cc pc = .ok (.invokevirtual idx, 3))
    (kk : ∀ x σ1, VM Γ G QB (k x) σ1 (pc + 3) lv (va_rf x :: rest)) : VM Γ G QB (bd (rc kd r) fun h => bd (f h) k) σ pc lv st := VM.callVN hG As n hC hc1 hlk hini him hsel hc h0 hd2 hRm hn hst hrest hd kk
theorem v_callSNr (hG : Gk Γ G own cc F L rt0) {f : Mr (Option Nat)} {k : (Option Nat) → Mr β} {host : String} {y : MethodName} {b : ByteArray} {nl F' L' idx : Nat} {ret : Option FieldType} (As : List Value) {rest : List Value} (n : Nat)
    (hC : Ct Γ y (ws_ y b nl ret) F' L' evR f As) (hc1 : Cond.code y b nl ret ∈ lw_all) (hlk : Cond.methodLinkNest own idx y host ∈ lw_tbl) (hini : Cond.initialized y.cls ∈ lw_all) (hst0 : Cond.static y ∈ lw_all)
    (hd2 : y.cls ≠ "java/lang/invoke/MethodHandle" ∧ y.cls ≠ "java/lang/invoke/VarHandle" ∧ (parseMethodDescriptor y.desc).map (fun d => d.parameters.length) = some n) (hRm : F' + 1 ≤ F ∧ 8 + (nl + 11) + L' ≤ L) (hn : As.length = n) (hst : st = As.reverse ++ rest) (hrest : (rest.map fun v => v.category).sum ≤ 8) (hd : decode cc pc = .ok (.invokestatic idx, 3))
    (kk : ∀ x σ1, VM Γ G QB (k x) σ1 (pc + 3) lv (va_rf x :: rest)) : VM Γ G QB (bd f k) σ pc lv st := VM.callSN hG As n hC hc1 hlk hini hst0 hd2 hRm hn hst hrest hd kk
end VR2
/-! THROWS: exceptions' classes by number; a method that returns or throws -/
def exC (e : Nat) : String := if e = 1 then "java/lang/IllegalArgumentException" else if e = 2 then "java/lang/IndexOutOfBoundsException" else if e = 3 then "java/lang/IllegalStateException" else "TongueProofs$Fault"
def QcX {α : Type} (Γ : Ga) (ev : α → Option Value) (r : Ex ⊕ α) (σ' : Hp) : Array Value → State → Outcome → State → Prop := match r with
  | .inr x => QR Γ ev x σ'
  | .inl _ => fun _ _ _ _ => False
def XcX {α : Type} (Γ : Ga) (r : Ex ⊕ α) (σ' : Hp) : String → Addr → State → State → Prop := match r with
  | .inr _ => fun _ _ _ _ => False
  | .inl e => fun E q st t => E = exC e.1 ∧ q = e.2 ∧ Wd Γ σ' t.heap ∧ (∀ q, q < gaB Γ → t.heap[q]? = st.heap[q]?) ∧ st.heap.size ≤ t.heap.size
def QX {α : Type} (Γ : Ga) (G : Ge) (ev : α → Option Value) (r : Ex ⊕ α) (σ' : Hp) : State → Prop := vx_MQ G.2.1.2.2.2 (QcX Γ ev r σ') (XcX Γ r σ') G.2.1.2.2.1 (geS G) (hSz σ' - geZ G) (hSl σ' - geL G) (fun q => gaB Γ ≤ q)
def CtX {α : Type} (Γ : Ga) (y : MethodName) (ws : List Cond) (F L : Nat) (ev : α → Option Value) (f : Mr (Ex ⊕ α)) (av : List Value) : Prop :=
  ∀ (σ : Hp) (r : Ex ⊕ α) (σ' : Hp), run f σ = some (r, σ') → vx_Met Γ.1.2 y ws { frames := F, cells := hSz σ' - hSz σ, slots := hSl σ' - hSl σ, locals := L } (va_Pc av (fun U => Wd Γ σ U.heap ∧ Cx Γ U)) (QcX Γ ev r σ') (XcX Γ r σ') (hSz σ' - hSz σ) (hSl σ' - hSl σ) (fun q => gaB Γ ≤ q)
/-- the frame with what is thrown over it: the mirror's way on -/
def VT {α : Type} (Γ : Ga) (G : Ge) (QB : α → Hp → State → Prop) (e q : Nat) (m : Mr α) (σ : Hp) (pc : Nat) (lv : List (Nat × Value)) : Prop :=
  ∀ (x : α) (σ' : Hp), run m σ = some (x, σ') → (hSz σ' ≤ geZ G + (geR G).cells ∧ hSl σ' ≤ geL G + (geR G).slots) →
    ∀ (H : Heap) (locs : List Loc) (cells slots : Nat) (ls : Array Slot) (rest : List Value) (ce : Cell), Wd Γ σ H → Fr Γ G H locs → (hSz σ = geZ G + cells ∧ hSl σ = geL G + slots) → lv_has ls (geN G) lv → H[q]? = some ce → ce.vm = .none → (geS G).vm.findClass (exC e) = some ce.cls →
      vx_W G.1.1 Γ.1.2 G.1.2.1 G.1.2.2 G.2.1.1 G.2.1.2.1 G.2.1.2.2.1 G.2.1.2.2.2 G.2.2.1.1 G.2.2.1.2 H locs cells slots (QB x σ') (F0 (geM G) pc ls rest) q
abbrev geE (G : Ge) : List ExceptionTableEntry := G.2.2.1.2.exceptionTable.toList
section VR4
variable {Γ : Ga} {G : Ge} {own : String} {cc : ByteArray} {F L : Nat} {rt0 : Option FieldType} {β : Type} {QB : β → Hp → State → Prop} {mm : Mr β} {σ : Hp} {pc : Nat} {lv : List (Nat × Value)} {st : List Value}
theorem v_noT {e q : Nat} (hG : Gk Γ G own cc F L rt0) : VT Γ G QB e q no σ pc lv := fun _ _ hm => by cases hm
/-- a return out of a method that may throw -/
def okr {α : Type} (m : Mr α) : Mr (Ex ⊕ α) := bd m fun x => rt (.inr x)
theorem run_okr {α : Type} (m : Mr α) (a : Hp) : run (okr m) a = (run m a).map fun p => (.inr p.1, p.2) := by
  unfold okr
  rw [run_bd]
  cases run m a <;> rfl
theorem VM.okr {α : Type} {m : Mr α} {ev : α → Option Value} (h : VM Γ G (QN Γ G ev) m σ pc lv st) : VM Γ G (QX Γ G ev) (okr m) σ pc lv st := by
  intro r σ' hm hr H locs cells slots ls hW hF hcs hl
  rw [run_okr] at hm
  obtain ⟨p, h1, h2⟩ := Option.map_eq_some_iff.mp hm
  cases h2
  exact vx_ret (h p.1 p.2 h1 hr H locs cells slots ls hW hF hcs hl)
theorem ctX_of {α : Type} {y : MethodName} {nL : Nat} {r : Option FieldType} {ev : α → Option Value} {f : Mr (Ex ⊕ α)} {av : List Value} (hΓ : Gok Γ) (hy : plainName y.cls = true) (ho : y.cls = own) (hn : (lg_sl av).length ≤ nL)
    (body : ∀ (G : Ge), Gk Γ G own cc F L r → geN G = nL → geE G = [] → (geS G).methodNamed? y = some (geM G) → ∀ σ : Hp, VM Γ G (QX Γ G ev) f σ 0 (lv_args 0 av) []) : CtX Γ y (ws_ y cc nL r) F L ev f av := by
  intro σ x σ' hm
  refine vx_ofW (cc := cc) (maxL := nL) (ret := r) hy rfl ?_
  intro p e s m args below meth c s₁ B hml het hv
  obtain ⟨rfl, hW, hC⟩ := hv
  have hts := atoms_spec (ws := ws_ y cc nL r) B.pre
  have hts : ∀ w ∈ lw_all, w.before _ s = true := fun w h => hts w (List.mem_cons_of_mem _ h)
  have hown : s.vm.findClass own = some m.cls := by rw [← ho]; exact findClass_of_methodNamed B.named
  have hl := lv_entry av (n := nL) hn
  rw [lg_entry_eq]
  generalize (lg_sl av ++ List.replicate (nL - (lg_sl av).length) Slot.unset).toArray = ls at hl ⊢
  have hle := run_le hm
  have hG : Gk Γ ((p, e, (headSpec (ws_ y cc nL r) { frames := F, cells := hSz σ' - hSz σ, slots := hSl σ' - hSl σ, locals := L }).room), (s, m, av.toArray, below), (meth, c), (hSz σ, hSl σ, nL)) own cc F L r :=
    ⟨B.exec, B.bytes, hml, hown, hts, hΓ, hC, rfl, rfl, B.returns, B.notSynchronized, va_K.moved hC.1.alike hΓ.2.1, hW.1.symm, hW.1 ▸ hW.2.1⟩
  have hle1 := hle.1
  have hle2 := hle.2.1
  have K := body _ hG rfl (List.eq_nil_iff_forall_not_mem.mpr het) B.named σ x σ' hm (by show hSz σ' ≤ hSz σ + (hSz σ' - hSz σ) ∧ hSl σ' ≤ hSl σ + (hSl σ' - hSl σ); omega) s.heap [] 0 0 ls hW ⟨fun _ _ => rfl, Nat.le_refl _, fun _ h => by cases h⟩ ⟨rfl, rfl⟩ hl
  exact K
/-- a method with handlers, out of which nothing is thrown -/
theorem ct_ofW {α : Type} {y : MethodName} {nL : Nat} {r : Option FieldType} {hh : List (Nat × Nat × Nat × Nat)} {ev : α → Option Value} {f : Mr α} {av : List Value} (hΓ : Gok Γ) (hy : plainName y.cls = true) (ho : y.cls = own) (hn : (lg_sl av).length ≤ nL)
    (body : ∀ (G : Ge), Gk Γ G own cc F L r → geN G = nL → geE G = tableOf hh → ∀ σ : Hp, VM Γ G (QN Γ G ev) f σ 0 (lv_args 0 av) []) : Ct Γ y (wsW_ y cc nL r hh) F L ev f av := by
  intro σ x σ' hm
  refine Jvm.Free.MetFree.of_bodySF (code := cc) (maxLocals := nL) (ret := r) (va_plain hy) ?_ ?_
  · intro args s m h hn
    obtain ⟨m9, meth, c, hn9, h1, h2, h3, h4, -, h5, h6, -⟩ := Cond.codeWith_spec (atoms_spec (ws := wsW_ y cc nL r hh) h _ List.mem_cons_self)
    cases hn.symm.trans hn9
    exact ⟨meth, c, h1, h2, h3, h4, h5, h6⟩
  intro p e s m args below meth c s₁ B hml hv _
  have htb : c.exceptionTable.toList = tableOf hh := vx_table (x := y) B (atoms_spec (ws := wsW_ y cc nL r hh) B.pre _ List.mem_cons_self)
  have hh0 : s₁.heap = s.heap := by rw [B.state]; rfl
  obtain ⟨hav, hW, hC⟩ := hv
  cases hav
  have hts := atoms_spec (ws := wsW_ y cc nL r hh) B.pre
  have hts : ∀ w ∈ lw_all, w.before _ s = true := fun w h => hts w (List.mem_cons_of_mem _ h)
  have hown : s.vm.findClass own = some m.cls := by rw [← ho]; exact findClass_of_methodNamed B.named
  have hl := lv_entry av (n := nL) hn
  rw [lg_entry_eq]
  generalize (lg_sl av ++ List.replicate (nL - (lg_sl av).length) Slot.unset).toArray = ls at hl ⊢
  have hle := run_le hm
  have hG : Gk Γ ((p, e, (headSpec (wsW_ y cc nL r hh) { frames := F, cells := hSz σ' - hSz σ, slots := hSl σ' - hSl σ, locals := L }).room), (s, m, av.toArray, below), (meth, c), (hSz σ, hSl σ, nL)) own cc F L r :=
    ⟨B.exec, B.bytes, hml, hown, hts, hΓ, hC, rfl, rfl, B.returns, B.notSynchronized, va_K.moved hC.1.alike hΓ.2.1, hW.1.symm, hW.1 ▸ hW.2.1⟩
  have hle1 := hle.1
  have hle2 := hle.2.1
  have K := body _ hG rfl htb σ x σ' hm (by show hSz σ' ≤ hSz σ + (hSz σ' - hSz σ) ∧ hSl σ' ≤ hSl σ + (hSl σ' - hSl σ); omega) s.heap [] 0 0 ls hW ⟨fun _ _ => rfl, Nat.le_refl _, fun _ h => by cases h⟩ ⟨rfl, rfl⟩ hl
  obtain ⟨t, a1, o, b1, b2, b3⟩ := K s₁ hh0 (Stand.of_body B)
  exact ⟨t, o, a1, b1, b2, ⟨b3.1, b3.2⟩⟩
/-- not caught here -/
theorem v_out {α : Type} {ev : α → Option Value} {e q : Nat} (hG : Gk Γ G own cc F L rt0) (hE : geE G = []) : VT Γ G (QX Γ G ev) e q (rt (.inl (e, q))) σ pc lv := by
  intro y σ' hm hr H locs cells slots ls rest ce hW hF hcs hl hq hv hc
  cases hm
  refine vx_outP hG.own hG.locks (fun z hz => ?_) hq hv hc (fun t ht ha => ?_) hF.2.2 (by have := hcs.1; omega) (by have := hcs.2; omega)
  · have hz : z ∈ geE G := hz
    rw [hE] at hz; cases hz
  · exact ⟨rfl, rfl, by rw [ht]; exact hW, fun q hq => by rw [ht]; exact hF.1 q hq, by rw [ht]; exact hF.2.1⟩
/-- caught here -/
theorem v_catch {e q : Nat} {name : String} {hh : List (Nat × Nat × Nat × Nat)} (hG : Gk Γ G own cc F L rt0) (hE : geE G = tableOf hh) (pre : List ExceptionTableEntry) (x : ExceptionTableEntry) (suf : List ExceptionTableEntry) (hs : tableOf hh = pre ++ x :: suf)
    (hpass : ∀ z ∈ pre, covers z pc = false ∨ (z.catchType ≠ 0 ∧ ∃ nm : String, Cond.classLink own z.catchType nm ∈ lw_all ∧ va_Nc (exC e) nm (geS G))) (hx : covers x pc = true) (h0 : x.catchType ≠ 0)
    (hlink : Cond.classLink own x.catchType name ∈ lw_all) (hcast : Cond.castable (exC e) name ∈ lw_tbl) (k : VM Γ G QB mm σ x.handlerPc lv [.ref q]) : VT Γ G QB e q mm σ pc lv := by
  intro y σ' hm hr H locs cells slots ls rest ce hW hF hcs hl hq hv hc
  exact vx_catch hG.own pre x suf (hE.trans hs) (fun z hz => (hpass z hz).imp id fun h => ⟨h.1, h.2.choose, hG.hts _ h.2.choose_spec.1, h.2.choose_spec.2⟩) hx h0 (hG.hts _ hlink) (va_Nw.use rfl (hG.nw hcast rfl fun hW hZ => va_Nw.warmC hW hZ)) hq hv hc (k y σ' hm hr H locs cells slots ls hW hF hcs hl)
theorem v_ifT {e q : Nat} {c : Prop} [Decidable c] {a b : Mr β} (kt : c → VT Γ G QB e q a σ pc lv) (kf : ¬ c → VT Γ G QB e q b σ pc lv) : VT Γ G QB e q (if c then a else b) σ pc lv := by
  by_cases h : c
  · rw [if_pos h]; exact kt h
  · rw [if_neg h]; exact kf h
theorem v_catchE {e n q : Nat} (he : e = n) {name : String} {hh : List (Nat × Nat × Nat × Nat)} (hG : Gk Γ G own cc F L rt0) (hE : geE G = tableOf hh) (pre : List ExceptionTableEntry) (x : ExceptionTableEntry) (suf : List ExceptionTableEntry) (hs : tableOf hh = pre ++ x :: suf)
    (hpass : ∀ z ∈ pre, covers z pc = false ∨ (z.catchType ≠ 0 ∧ ∃ nm : String, Cond.classLink own z.catchType nm ∈ lw_all ∧ va_Nc (exC n) nm (geS G))) (hx : covers x pc = true) (h0 : x.catchType ≠ 0)
    (hlink : Cond.classLink own x.catchType name ∈ lw_all) (hcast : Cond.castable (exC n) name ∈ lw_tbl) (k : VM Γ G QB mm σ x.handlerPc lv [.ref q]) : VT Γ G QB e q mm σ pc lv := by
  subst he
  exact v_catch hG hE pre x suf hs hpass hx h0 hlink hcast k
theorem Gk.nc0 (hG : Gk Γ G own cc F L rt0) : va_Nc (exC 1) "java/lang/IndexOutOfBoundsException" (geS G) := va_Nc.moved hG.cx.1.alike hG.ok.2.2.2.2.2.1.1
theorem Gk.nc1 (hG : Gk Γ G own cc F L rt0) : va_Nc (exC 3) "java/lang/IllegalArgumentException" (geS G) := va_Nc.moved hG.cx.1.alike hG.ok.2.2.2.2.2.1.2
/-- a writable object of a kind -/
def rk (k : Nat) (r : Option Nat) : Mr Nat := rd fun a => r.bind fun q => if hK a q = k then some q else none
theorem v_athrow (hG : Gk Γ G own cc F L rt0) {q : Nat} {g : Nat → Mr β} (hd : decode cc pc = .ok (.athrow, 1)) (kk : VT Γ G QB 4 q (g q) σ pc lv) : VM Γ G QB (bd (rk 7 (some q)) g) σ pc lv (.ref q :: st) := by
  intro y σ' hm hr H locs cells slots ls hW hF hcs hl
  obtain ⟨h, e1, e2⟩ := run_rd_inv hm
  have e1 : (if hK σ q = 7 then some q else none) = some h := e1
  split at e1
  · rename_i hk
    cases e1
    obtain ⟨hb, r, q0, hO⟩ := hW.objW hk (by decide) (by decide)
    cases q0
    obtain ⟨cell, h1, h2, h3, h4⟩ := hO
    exact vx_athrow hG.exec hG.bytes hd (kk y σ' e2 hr H locs cells slots ls st cell hW hF hcs hl h1 h3 (by rw [h2]; exact (hG.vk.1 6 _ rfl).2.1))
  · cases e1
/-- a call that returns or throws -/
theorem VM.bhc (hG : Gk Γ G own cc F L rt0) {α : Type} {f : Mr (Ex ⊕ α)} {g : Ex → Mr β} {k : α → Mr β} {ev : α → Option Value} {args : Array Value} {rest : List Value}
    (hrun : ∀ (r : Ex ⊕ α) (σ1 : Hp), run f σ = some (r, σ1) → ∀ (H : Heap) (locs : List Loc) (cells slots : Nat) (ls : Array Slot), Wd Γ σ H → Fr Γ G H locs → ls.size = geN G → cells + (hSz σ1 - hSz σ) ≤ (geR G).cells ∧ slots + (hSl σ1 - hSl σ) ≤ (geR G).slots →
      vx_Run G.1.1 Γ.1.2 G.1.2.1 G.1.2.2 G.2.1.1 G.2.1.2.1 G.2.1.2.2.1 G.2.1.2.2.2 G.2.2.1.1 G.2.2.1.2 H locs cells slots (hSz σ1 - hSz σ) (hSl σ1 - hSl σ) (F0 (geM G) pc ls st) rest (QcX Γ ev r σ1 args) (XcX Γ r σ1) (fun q => gaB Γ ≤ q))
    (kk : ∀ x σ1, VM Γ G QB (k x) σ1 (pc + 3) lv ((ev x).toList ++ rest)) (kx : ∀ (e : Ex) σ1, VT Γ G QB e.1 e.2 (g e) σ1 pc lv) : VM Γ G QB (bh f g k) σ pc lv st := by
  intro y σ' hm hr H locs cells slots ls hW hF hcs hl
  obtain ⟨r, σ1, h1, h2⟩ := run_bd_inv hm
  have g1 := run_le h1
  have g2 := run_le h2
  have a1 := g1.1
  have a2 := g1.2.1
  have b1 := g2.1
  have b2 := g2.2.1
  intro T hT X
  rcases hrun r σ1 h1 H locs cells slots ls hW hF hl.1 (by omega) T hT X with ⟨v, st₀, t, T', L', e0, X', hL', e1, e2, hq, hgo⟩ | ⟨q, st₀, t, T', L', E, ce, e0, X', hL', e1, e2, hq, hce, hcv, hcl, st9⟩
  · cases r with
    | inl e => exact hq.elim
    | inr x =>
      obtain ⟨hv, hW1, hold, hsz⟩ := hq
      cases hv
      rw [e0] at hold hsz
      have hW1 : Wd Γ σ1 T'.heap := by rw [e1]; exact hW1
      obtain ⟨t2, c1, c2⟩ := kk x σ1 y σ' h2 hr T'.heap (locs ++ L') _ _ ls hW1 ⟨fun q hq => by rw [e1, hold q hq]; exact hF.1 q hq, Nat.le_trans hF.2.1 (by rw [e1]; exact hsz), fun q hq => by
        rcases List.mem_append.mp hq with h | h
        · exact hF.2.2 q h
        · exact hL' q h⟩ (by omega) hl T' rfl X'
      exact ⟨t2, hgo t2 c1, c2⟩
  · cases r with
    | inr x => exact hq.elim
    | inl e =>
      obtain ⟨rfl, rfl, hW1, hold, hsz⟩ := hq
      rw [e0] at hold hsz
      have hW1 : Wd Γ σ1 T'.heap := by rw [e1]; exact hW1
      obtain ⟨t2, c1, c2⟩ := kx e σ1 y σ' h2 hr T'.heap (locs ++ L') _ _ ls rest ce hW1 ⟨fun q hq => by rw [e1, hold q hq]; exact hF.1 q hq, Nat.le_trans hF.2.1 (by rw [e1]; exact hsz), fun q hq => by
        rcases List.mem_append.mp hq with h | h
        · exact hF.2.2 q h
        · exact hL' q h⟩ (by omega) hl (by rw [e1]; exact hce) hcv hcl T' rfl X'
      exact ⟨t2, st9.trans c1, c2⟩
theorem VM.xV (hG : Gk Γ G own cc F L rt0) {α : Type} {f : Nat → Mr (Ex ⊕ α)} {g : Ex → Mr β} {k : α → Mr β} {ev : α → Option Value} {kd : Nat} {C : String} {T : u_T} {N : Nat} {y : MethodName} {b : ByteArray} {nl F' L' idx : Nat} {ret : Option FieldType} {r : Option Nat} (As : List Value) {rest : List Value} (n : Nat)
    (hC : ∀ h, CtX Γ y (ws_ y b nl ret) F' L' ev (f h) (.ref h :: As)) (hw : GoodIn lw_all (wsV own idx C y (ws_ y b nl ret))) (hc : vwAll[kd - 1]? = some (C, T, N)) (h0 : 0 < kd ∧ kd < 40)
    (hd2 : y.cls = C ∧ y.cls ≠ "java/lang/invoke/MethodHandle" ∧ y.cls ≠ "java/lang/invoke/VarHandle" ∧ (parseMethodDescriptor y.desc).map (fun d => d.parameters.length) = some n) (hRm : F' + 1 ≤ F ∧ 8 + (nl + 11) + L' ≤ L) (hn : As.length = n) (hst : st = As.reverse ++ va_rf r :: rest) (hrest : (rest.map fun v => v.category).sum ≤ 8) (hd : decode cc pc = .ok (.invokevirtual idx, 3))
    (kk : ∀ x σ1, VM Γ G QB (k x) σ1 (pc + 3) lv ((ev x).toList ++ rest)) (kx : ∀ (e : Ex) σ1, VT Γ G QB e.1 e.2 (g e) σ1 pc lv) : VM Γ G QB (bd (rc kd r) fun h => bh (f h) g k) σ pc lv st := by
  intro y' σ' hm
  obtain ⟨h, e1, e2⟩ := run_rd_inv hm
  obtain ⟨q, rfl, e3⟩ := Option.bind_eq_some_iff.mp e1
  split at e3
  · rename_i hk
    cases e3
    refine VM.bhc hG (ev := ev) (rest := rest) (args := (Value.ref h :: As).toArray) (fun x σ1 h1 H locs cells slots ls hW hF hls hf => ?_) kk kx y' σ' e2
    have hR1 : F' + 1 ≤ G.1.2.2.frames ∧ 8 + (nl + 11) + L' ≤ G.1.2.2.locals := by
      have e1 := hG.frames
      have e2 := hG.locals
      rw [← e1, ← e2] at hRm
      exact hRm
    refine vx_runV (As := As) (rest := rest) ⟨hG.exec, hG.bytes, hG.maxL, hG.own, hG.hts⟩ (hC h σ x σ1 h1) (cwV n hG.hts hw rfl rfl rfl hd2 hR1) ⟨Pc_blind, ?_, fun U hU hw2 => Pc_of hG hW hF U hU hw2⟩ rfl hn hls hst (lv_room hrest) hd hf
    exact hW.recv hG hk h0 hc
  · cases e3
theorem VM.xS (hG : Gk Γ G own cc F L rt0) {α : Type} {f : Mr (Ex ⊕ α)} {g : Ex → Mr β} {k : α → Mr β} {ev : α → Option Value} {y : MethodName} {b : ByteArray} {nl F' L' idx : Nat} {ret : Option FieldType} (As : List Value) {rest : List Value} (n : Nat)
    (hC : CtX Γ y (ws_ y b nl ret) F' L' ev f As) (hw : GoodIn lw_all (va_wsS own idx y (ws_ y b nl ret)))
    (hd2 : y.cls ≠ "java/lang/invoke/MethodHandle" ∧ y.cls ≠ "java/lang/invoke/VarHandle" ∧ (parseMethodDescriptor y.desc).map (fun d => d.parameters.length) = some n) (hRm : F' + 1 ≤ F ∧ 8 + (nl + 11) + L' ≤ L) (hn : As.length = n) (hst : st = As.reverse ++ rest) (hrest : (rest.map fun v => v.category).sum ≤ 8) (hd : decode cc pc = .ok (.invokestatic idx, 3))
    (kk : ∀ x σ1, VM Γ G QB (k x) σ1 (pc + 3) lv ((ev x).toList ++ rest)) (kx : ∀ (e : Ex) σ1, VT Γ G QB e.1 e.2 (g e) σ1 pc lv) : VM Γ G QB (bh f g k) σ pc lv st := by
  refine VM.bhc hG (ev := ev) (rest := rest) (args := As.toArray) (fun x σ1 h1 H locs cells slots ls hW hF hls hf => ?_) kk kx
  have hR1 : F' + 1 ≤ G.1.2.2.frames ∧ 8 + (nl + 11) + L' ≤ G.1.2.2.locals := by
    have e1 := hG.frames
    have e2 := hG.locals
    rw [← e1, ← e2] at hRm
    exact hRm
  exact vx_runS (As := As) (rest := rest) ⟨hG.exec, hG.bytes, hG.maxL, hG.own, hG.hts⟩ (hC σ x σ1 h1) (va_cwS n hG.hts hw rfl rfl rfl hd2 hR1) ⟨Pc_blind, fun U hU hw2 => Pc_of hG hW hF U hU hw2⟩ rfl hn hls hst (lv_room hrest) hd hf
/-- calls of methods with handlers -/
theorem VM.callSW (hG : Gk Γ G own cc F L rt0) {α : Type} {f : Mr α} {k : α → Mr β} {ev : α → Option Value} {y : MethodName} {b : ByteArray} {nl F' L' idx : Nat} {ret : Option FieldType} {hh : List (Nat × Nat × Nat × Nat)} (As : List Value) {rest : List Value} (n : Nat)
    (hC : Ct Γ y (wsW_ y b nl ret hh) F' L' ev f As) (hw : GoodIn lw_all (va_wsS own idx y (wsW_ y b nl ret hh)))
    (hd2 : y.cls ≠ "java/lang/invoke/MethodHandle" ∧ y.cls ≠ "java/lang/invoke/VarHandle" ∧ (parseMethodDescriptor y.desc).map (fun d => d.parameters.length) = some n) (hRm : F' + 1 ≤ F ∧ 8 + (nl + 11) + L' ≤ L) (hn : As.length = n) (hst : st = As.reverse ++ rest) (hrest : (rest.map fun v => v.category).sum ≤ 8) (hd : decode cc pc = .ok (.invokestatic idx, 3))
    (kk : ∀ x σ1, VM Γ G QB (k x) σ1 (pc + 3) lv ((ev x).toList ++ rest)) : VM Γ G QB (bd f k) σ pc lv st := by
  refine VM.call hG (ev := ev) (rest := rest) (args := As.toArray) (fun x σ1 h1 H locs cells slots ls hW hF hls hf => ?_) kk
  have hR1 : F' + 1 ≤ G.1.2.2.frames ∧ 8 + (nl + 11) + L' ≤ G.1.2.2.locals := by
    have e1 := hG.frames
    have e2 := hG.locals
    rw [← e1, ← e2] at hRm
    exact hRm
  exact vx_runSW (As := As) (rest := rest) ⟨hG.exec, hG.bytes, hG.maxL, hG.own, hG.hts⟩ (hC σ x σ1 h1) (vx_cwSW n hG.hts hw rfl rfl rfl hd2 hR1) ⟨Pc_blind, fun U hU hw2 => Pc_of hG hW hF U hU hw2⟩ rfl hn hls hst (lv_room hrest) hd hf
theorem VM.callVW (hG : Gk Γ G own cc F L rt0) {α : Type} {f : Nat → Mr α} {k : α → Mr β} {ev : α → Option Value} {kd : Nat} {C : String} {T : u_T} {N : Nat} {y : MethodName} {b : ByteArray} {nl F' L' idx : Nat} {ret : Option FieldType} {hh : List (Nat × Nat × Nat × Nat)} {r : Option Nat} (As : List Value) {rest : List Value} (n : Nat)
    (hC : ∀ h, Ct Γ y (wsW_ y b nl ret hh) F' L' ev (f h) (.ref h :: As)) (hw : GoodIn lw_all (wsV own idx C y (wsW_ y b nl ret hh))) (hc : vwAll[kd - 1]? = some (C, T, N)) (h0 : 0 < kd ∧ kd < 40)
    (hd2 : y.cls = C ∧ y.cls ≠ "java/lang/invoke/MethodHandle" ∧ y.cls ≠ "java/lang/invoke/VarHandle" ∧ (parseMethodDescriptor y.desc).map (fun d => d.parameters.length) = some n) (hRm : F' + 1 ≤ F ∧ 8 + (nl + 11) + L' ≤ L) (hn : As.length = n) (hst : st = As.reverse ++ va_rf r :: rest) (hrest : (rest.map fun v => v.category).sum ≤ 8) (hd : decode cc pc = .ok (.invokevirtual idx, 3))
    (kk : ∀ x σ1, VM Γ G QB (k x) σ1 (pc + 3) lv ((ev x).toList ++ rest)) : VM Γ G QB (bd (rc kd r) fun h => bd (f h) k) σ pc lv st := by
  intro y' σ' hm
  obtain ⟨h, e1, e2⟩ := run_rd_inv hm
  obtain ⟨q, rfl, e3⟩ := Option.bind_eq_some_iff.mp e1
  split at e3
  · rename_i hk
    cases e3
    refine VM.call hG (ev := ev) (rest := rest) (args := (Value.ref h :: As).toArray) (fun x σ1 h1 H locs cells slots ls hW hF hls hf => ?_) kk y' σ' e2
    have hR1 : F' + 1 ≤ G.1.2.2.frames ∧ 8 + (nl + 11) + L' ≤ G.1.2.2.locals := by
      have e1 := hG.frames
      have e2 := hG.locals
      rw [← e1, ← e2] at hRm
      exact hRm
    exact vx_runVW (As := As) (rest := rest) ⟨hG.exec, hG.bytes, hG.maxL, hG.own, hG.hts⟩ (hC h σ x σ1 h1) (vx_cwVW n hG.hts hw rfl rfl rfl hd2 hR1) ⟨Pc_blind, hW.recv hG hk h0 hc, fun U hU hw2 => Pc_of hG hW hF U hU hw2⟩ rfl hn hls hst (lv_room hrest) hd hf
  · cases e3
theorem v_xVi (hG : Gk Γ G own cc F L rt0) {f : Nat → Mr (Ex ⊕ Int32)} {g : Ex → Mr β} {k : Int32 → Mr β} {kd : Nat} {C : String} {T : u_T} {N : Nat} {y : MethodName} {b : ByteArray} {nl F' L' idx : Nat} {ret : Option FieldType} {r : Option Nat} (As : List Value) {rest : List Value} (n : Nat)
    (hC : ∀ h, CtX Γ y (ws_ y b nl ret) F' L' evI (f h) (.ref h :: As)) (hw : GoodIn lw_all (wsV own idx C y (ws_ y b nl ret))) (hc : vwAll[kd - 1]? = some (C, T, N)) (h0 : 0 < kd ∧ kd < 40)
    (hd2 : y.cls = C ∧ y.cls ≠ "java/lang/invoke/MethodHandle" ∧ y.cls ≠ "java/lang/invoke/VarHandle" ∧ (parseMethodDescriptor y.desc).map (fun d => d.parameters.length) = some n) (hRm : F' + 1 ≤ F ∧ 8 + (nl + 11) + L' ≤ L) (hn : As.length = n) (hst : st = As.reverse ++ va_rf r :: rest) (hrest : (rest.map fun v => v.category).sum ≤ 8) (hd : decode cc pc = .ok (.invokevirtual idx, 3))
    (kk : ∀ x σ1, VM Γ G QB (k x) σ1 (pc + 3) lv (.int x :: rest)) (kx : ∀ (e : Ex) σ1, VT Γ G QB e.1 e.2 (g e) σ1 pc lv) : VM Γ G QB (bd (rc kd r) fun h => bh (f h) g k) σ pc lv st := VM.xV hG As n hC hw hc h0 hd2 hRm hn hst hrest hd kk kx
theorem v_xVu (hG : Gk Γ G own cc F L rt0) {f : Nat → Mr (Ex ⊕ Unit)} {g : Ex → Mr β} {k : Unit → Mr β} {kd : Nat} {C : String} {T : u_T} {N : Nat} {y : MethodName} {b : ByteArray} {nl F' L' idx : Nat} {ret : Option FieldType} {r : Option Nat} (As : List Value) {rest : List Value} (n : Nat)
    (hC : ∀ h, CtX Γ y (ws_ y b nl ret) F' L' evU (f h) (.ref h :: As)) (hw : GoodIn lw_all (wsV own idx C y (ws_ y b nl ret))) (hc : vwAll[kd - 1]? = some (C, T, N)) (h0 : 0 < kd ∧ kd < 40)
    (hd2 : y.cls = C ∧ y.cls ≠ "java/lang/invoke/MethodHandle" ∧ y.cls ≠ "java/lang/invoke/VarHandle" ∧ (parseMethodDescriptor y.desc).map (fun d => d.parameters.length) = some n) (hRm : F' + 1 ≤ F ∧ 8 + (nl + 11) + L' ≤ L) (hn : As.length = n) (hst : st = As.reverse ++ va_rf r :: rest) (hrest : (rest.map fun v => v.category).sum ≤ 8) (hd : decode cc pc = .ok (.invokevirtual idx, 3))
    (kk : ∀ x σ1, VM Γ G QB (k x) σ1 (pc + 3) lv (rest)) (kx : ∀ (e : Ex) σ1, VT Γ G QB e.1 e.2 (g e) σ1 pc lv) : VM Γ G QB (bd (rc kd r) fun h => bh (f h) g k) σ pc lv st := VM.xV hG As n hC hw hc h0 hd2 hRm hn hst hrest hd kk kx
theorem v_xVr (hG : Gk Γ G own cc F L rt0) {f : Nat → Mr (Ex ⊕ Option Nat)} {g : Ex → Mr β} {k : Option Nat → Mr β} {kd : Nat} {C : String} {T : u_T} {N : Nat} {y : MethodName} {b : ByteArray} {nl F' L' idx : Nat} {ret : Option FieldType} {r : Option Nat} (As : List Value) {rest : List Value} (n : Nat)
    (hC : ∀ h, CtX Γ y (ws_ y b nl ret) F' L' evR (f h) (.ref h :: As)) (hw : GoodIn lw_all (wsV own idx C y (ws_ y b nl ret))) (hc : vwAll[kd - 1]? = some (C, T, N)) (h0 : 0 < kd ∧ kd < 40)
    (hd2 : y.cls = C ∧ y.cls ≠ "java/lang/invoke/MethodHandle" ∧ y.cls ≠ "java/lang/invoke/VarHandle" ∧ (parseMethodDescriptor y.desc).map (fun d => d.parameters.length) = some n) (hRm : F' + 1 ≤ F ∧ 8 + (nl + 11) + L' ≤ L) (hn : As.length = n) (hst : st = As.reverse ++ va_rf r :: rest) (hrest : (rest.map fun v => v.category).sum ≤ 8) (hd : decode cc pc = .ok (.invokevirtual idx, 3))
    (kk : ∀ x σ1, VM Γ G QB (k x) σ1 (pc + 3) lv (va_rf x :: rest)) (kx : ∀ (e : Ex) σ1, VT Γ G QB e.1 e.2 (g e) σ1 pc lv) : VM Γ G QB (bd (rc kd r) fun h => bh (f h) g k) σ pc lv st := VM.xV hG As n hC hw hc h0 hd2 hRm hn hst hrest hd kk kx
theorem v_xVf (hG : Gk Γ G own cc F L rt0) {f : Nat → Mr (Ex ⊕ UInt32)} {g : Ex → Mr β} {k : UInt32 → Mr β} {kd : Nat} {C : String} {T : u_T} {N : Nat} {y : MethodName} {b : ByteArray} {nl F' L' idx : Nat} {ret : Option FieldType} {r : Option Nat} (As : List Value) {rest : List Value} (n : Nat)
    (hC : ∀ h, CtX Γ y (ws_ y b nl ret) F' L' evF (f h) (.ref h :: As)) (hw : GoodIn lw_all (wsV own idx C y (ws_ y b nl ret))) (hc : vwAll[kd - 1]? = some (C, T, N)) (h0 : 0 < kd ∧ kd < 40)
    (hd2 : y.cls = C ∧ y.cls ≠ "java/lang/invoke/MethodHandle" ∧ y.cls ≠ "java/lang/invoke/VarHandle" ∧ (parseMethodDescriptor y.desc).map (fun d => d.parameters.length) = some n) (hRm : F' + 1 ≤ F ∧ 8 + (nl + 11) + L' ≤ L) (hn : As.length = n) (hst : st = As.reverse ++ va_rf r :: rest) (hrest : (rest.map fun v => v.category).sum ≤ 8) (hd : decode cc pc = .ok (.invokevirtual idx, 3))
    (kk : ∀ x σ1, VM Γ G QB (k x) σ1 (pc + 3) lv (.float x :: rest)) (kx : ∀ (e : Ex) σ1, VT Γ G QB e.1 e.2 (g e) σ1 pc lv) : VM Γ G QB (bd (rc kd r) fun h => bh (f h) g k) σ pc lv st := VM.xV hG As n hC hw hc h0 hd2 hRm hn hst hrest hd kk kx
theorem v_xVd (hG : Gk Γ G own cc F L rt0) {f : Nat → Mr (Ex ⊕ UInt64)} {g : Ex → Mr β} {k : UInt64 → Mr β} {kd : Nat} {C : String} {T : u_T} {N : Nat} {y : MethodName} {b : ByteArray} {nl F' L' idx : Nat} {ret : Option FieldType} {r : Option Nat} (As : List Value) {rest : List Value} (n : Nat)
    (hC : ∀ h, CtX Γ y (ws_ y b nl ret) F' L' evD (f h) (.ref h :: As)) (hw : GoodIn lw_all (wsV own idx C y (ws_ y b nl ret))) (hc : vwAll[kd - 1]? = some (C, T, N)) (h0 : 0 < kd ∧ kd < 40)
    (hd2 : y.cls = C ∧ y.cls ≠ "java/lang/invoke/MethodHandle" ∧ y.cls ≠ "java/lang/invoke/VarHandle" ∧ (parseMethodDescriptor y.desc).map (fun d => d.parameters.length) = some n) (hRm : F' + 1 ≤ F ∧ 8 + (nl + 11) + L' ≤ L) (hn : As.length = n) (hst : st = As.reverse ++ va_rf r :: rest) (hrest : (rest.map fun v => v.category).sum ≤ 8) (hd : decode cc pc = .ok (.invokevirtual idx, 3))
    (kk : ∀ x σ1, VM Γ G QB (k x) σ1 (pc + 3) lv (.double x :: rest)) (kx : ∀ (e : Ex) σ1, VT Γ G QB e.1 e.2 (g e) σ1 pc lv) : VM Γ G QB (bd (rc kd r) fun h => bh (f h) g k) σ pc lv st := VM.xV hG As n hC hw hc h0 hd2 hRm hn hst hrest hd kk kx
theorem v_xSi (hG : Gk Γ G own cc F L rt0) {f : Mr (Ex ⊕ Int32)} {g : Ex → Mr β} {k : Int32 → Mr β} {y : MethodName} {b : ByteArray} {nl F' L' idx : Nat} {ret : Option FieldType} (As : List Value) {rest : List Value} (n : Nat)
    (hC : CtX Γ y (ws_ y b nl ret) F' L' evI f As) (hw : GoodIn lw_all (va_wsS own idx y (ws_ y b nl ret)))
    (hd2 : y.cls ≠ "java/lang/invoke/MethodHandle" ∧ y.cls ≠ "java/lang/invoke/VarHandle" ∧ (parseMethodDescriptor y.desc).map (fun d => d.parameters.length) = some n) (hRm : F' + 1 ≤ F ∧ 8 + (nl + 11) + L' ≤ L) (hn : As.length = n) (hst : st = As.reverse ++ rest) (hrest : (rest.map fun v => v.category).sum ≤ 8) (hd : decode cc pc = .ok (.invokestatic idx, 3))
    (kk : ∀ x σ1, VM Γ G QB (k x) σ1 (pc + 3) lv (.int x :: rest)) (kx : ∀ (e : Ex) σ1, VT Γ G QB e.1 e.2 (g e) σ1 pc lv) : VM Γ G QB (bh f g k) σ pc lv st := VM.xS hG As n hC hw hd2 hRm hn hst hrest hd kk kx
theorem v_xSu (hG : Gk Γ G own cc F L rt0) {f : Mr (Ex ⊕ Unit)} {g : Ex → Mr β} {k : Unit → Mr β} {y : MethodName} {b : ByteArray} {nl F' L' idx : Nat} {ret : Option FieldType} (As : List Value) {rest : List Value} (n : Nat)
    (hC : CtX Γ y (ws_ y b nl ret) F' L' evU f As) (hw : GoodIn lw_all (va_wsS own idx y (ws_ y b nl ret)))
    (hd2 : y.cls ≠ "java/lang/invoke/MethodHandle" ∧ y.cls ≠ "java/lang/invoke/VarHandle" ∧ (parseMethodDescriptor y.desc).map (fun d => d.parameters.length) = some n) (hRm : F' + 1 ≤ F ∧ 8 + (nl + 11) + L' ≤ L) (hn : As.length = n) (hst : st = As.reverse ++ rest) (hrest : (rest.map fun v => v.category).sum ≤ 8) (hd : decode cc pc = .ok (.invokestatic idx, 3))
    (kk : ∀ x σ1, VM Γ G QB (k x) σ1 (pc + 3) lv (rest)) (kx : ∀ (e : Ex) σ1, VT Γ G QB e.1 e.2 (g e) σ1 pc lv) : VM Γ G QB (bh f g k) σ pc lv st := VM.xS hG As n hC hw hd2 hRm hn hst hrest hd kk kx
theorem v_xSr (hG : Gk Γ G own cc F L rt0) {f : Mr (Ex ⊕ Option Nat)} {g : Ex → Mr β} {k : Option Nat → Mr β} {y : MethodName} {b : ByteArray} {nl F' L' idx : Nat} {ret : Option FieldType} (As : List Value) {rest : List Value} (n : Nat)
    (hC : CtX Γ y (ws_ y b nl ret) F' L' evR f As) (hw : GoodIn lw_all (va_wsS own idx y (ws_ y b nl ret)))
    (hd2 : y.cls ≠ "java/lang/invoke/MethodHandle" ∧ y.cls ≠ "java/lang/invoke/VarHandle" ∧ (parseMethodDescriptor y.desc).map (fun d => d.parameters.length) = some n) (hRm : F' + 1 ≤ F ∧ 8 + (nl + 11) + L' ≤ L) (hn : As.length = n) (hst : st = As.reverse ++ rest) (hrest : (rest.map fun v => v.category).sum ≤ 8) (hd : decode cc pc = .ok (.invokestatic idx, 3))
    (kk : ∀ x σ1, VM Γ G QB (k x) σ1 (pc + 3) lv (va_rf x :: rest)) (kx : ∀ (e : Ex) σ1, VT Γ G QB e.1 e.2 (g e) σ1 pc lv) : VM Γ G QB (bh f g k) σ pc lv st := VM.xS hG As n hC hw hd2 hRm hn hst hrest hd kk kx
theorem v_xSf (hG : Gk Γ G own cc F L rt0) {f : Mr (Ex ⊕ UInt32)} {g : Ex → Mr β} {k : UInt32 → Mr β} {y : MethodName} {b : ByteArray} {nl F' L' idx : Nat} {ret : Option FieldType} (As : List Value) {rest : List Value} (n : Nat)
    (hC : CtX Γ y (ws_ y b nl ret) F' L' evF f As) (hw : GoodIn lw_all (va_wsS own idx y (ws_ y b nl ret)))
    (hd2 : y.cls ≠ "java/lang/invoke/MethodHandle" ∧ y.cls ≠ "java/lang/invoke/VarHandle" ∧ (parseMethodDescriptor y.desc).map (fun d => d.parameters.length) = some n) (hRm : F' + 1 ≤ F ∧ 8 + (nl + 11) + L' ≤ L) (hn : As.length = n) (hst : st = As.reverse ++ rest) (hrest : (rest.map fun v => v.category).sum ≤ 8) (hd : decode cc pc = .ok (.invokestatic idx, 3))
    (kk : ∀ x σ1, VM Γ G QB (k x) σ1 (pc + 3) lv (.float x :: rest)) (kx : ∀ (e : Ex) σ1, VT Γ G QB e.1 e.2 (g e) σ1 pc lv) : VM Γ G QB (bh f g k) σ pc lv st := VM.xS hG As n hC hw hd2 hRm hn hst hrest hd kk kx
theorem v_xSd (hG : Gk Γ G own cc F L rt0) {f : Mr (Ex ⊕ UInt64)} {g : Ex → Mr β} {k : UInt64 → Mr β} {y : MethodName} {b : ByteArray} {nl F' L' idx : Nat} {ret : Option FieldType} (As : List Value) {rest : List Value} (n : Nat)
    (hC : CtX Γ y (ws_ y b nl ret) F' L' evD f As) (hw : GoodIn lw_all (va_wsS own idx y (ws_ y b nl ret)))
    (hd2 : y.cls ≠ "java/lang/invoke/MethodHandle" ∧ y.cls ≠ "java/lang/invoke/VarHandle" ∧ (parseMethodDescriptor y.desc).map (fun d => d.parameters.length) = some n) (hRm : F' + 1 ≤ F ∧ 8 + (nl + 11) + L' ≤ L) (hn : As.length = n) (hst : st = As.reverse ++ rest) (hrest : (rest.map fun v => v.category).sum ≤ 8) (hd : decode cc pc = .ok (.invokestatic idx, 3))
    (kk : ∀ x σ1, VM Γ G QB (k x) σ1 (pc + 3) lv (.double x :: rest)) (kx : ∀ (e : Ex) σ1, VT Γ G QB e.1 e.2 (g e) σ1 pc lv) : VM Γ G QB (bh f g k) σ pc lv st := VM.xS hG As n hC hw hd2 hRm hn hst hrest hd kk kx
theorem v_callSWi (hG : Gk Γ G own cc F L rt0) {f : Mr Int32} {k : Int32 → Mr β} {y : MethodName} {b : ByteArray} {nl F' L' idx : Nat} {ret : Option FieldType} {hh : List (Nat × Nat × Nat × Nat)} (As : List Value) {rest : List Value} (n : Nat)
    (hC : Ct Γ y (wsW_ y b nl ret hh) F' L' evI f As) (hw : GoodIn lw_all (va_wsS own idx y (wsW_ y b nl ret hh)))
    (hd2 : y.cls ≠ "java/lang/invoke/MethodHandle" ∧ y.cls ≠ "java/lang/invoke/VarHandle" ∧ (parseMethodDescriptor y.desc).map (fun d => d.parameters.length) = some n) (hRm : F' + 1 ≤ F ∧ 8 + (nl + 11) + L' ≤ L) (hn : As.length = n) (hst : st = As.reverse ++ rest) (hrest : (rest.map fun v => v.category).sum ≤ 8) (hd : decode cc pc = .ok (.invokestatic idx, 3))
    (kk : ∀ x σ1, VM Γ G QB (k x) σ1 (pc + 3) lv (.int x :: rest)) : VM Γ G QB (bd f k) σ pc lv st := VM.callSW hG As n hC hw hd2 hRm hn hst hrest hd kk
theorem v_callSWu (hG : Gk Γ G own cc F L rt0) {f : Mr Unit} {k : Unit → Mr β} {y : MethodName} {b : ByteArray} {nl F' L' idx : Nat} {ret : Option FieldType} {hh : List (Nat × Nat × Nat × Nat)} (As : List Value) {rest : List Value} (n : Nat)
    (hC : Ct Γ y (wsW_ y b nl ret hh) F' L' evU f As) (hw : GoodIn lw_all (va_wsS own idx y (wsW_ y b nl ret hh)))
    (hd2 : y.cls ≠ "java/lang/invoke/MethodHandle" ∧ y.cls ≠ "java/lang/invoke/VarHandle" ∧ (parseMethodDescriptor y.desc).map (fun d => d.parameters.length) = some n) (hRm : F' + 1 ≤ F ∧ 8 + (nl + 11) + L' ≤ L) (hn : As.length = n) (hst : st = As.reverse ++ rest) (hrest : (rest.map fun v => v.category).sum ≤ 8) (hd : decode cc pc = .ok (.invokestatic idx, 3))
    (kk : ∀ x σ1, VM Γ G QB (k x) σ1 (pc + 3) lv (rest)) : VM Γ G QB (bd f k) σ pc lv st := VM.callSW hG As n hC hw hd2 hRm hn hst hrest hd kk
theorem v_callSWr (hG : Gk Γ G own cc F L rt0) {f : Mr (Option Nat)} {k : Option Nat → Mr β} {y : MethodName} {b : ByteArray} {nl F' L' idx : Nat} {ret : Option FieldType} {hh : List (Nat × Nat × Nat × Nat)} (As : List Value) {rest : List Value} (n : Nat)
    (hC : Ct Γ y (wsW_ y b nl ret hh) F' L' evR f As) (hw : GoodIn lw_all (va_wsS own idx y (wsW_ y b nl ret hh)))
    (hd2 : y.cls ≠ "java/lang/invoke/MethodHandle" ∧ y.cls ≠ "java/lang/invoke/VarHandle" ∧ (parseMethodDescriptor y.desc).map (fun d => d.parameters.length) = some n) (hRm : F' + 1 ≤ F ∧ 8 + (nl + 11) + L' ≤ L) (hn : As.length = n) (hst : st = As.reverse ++ rest) (hrest : (rest.map fun v => v.category).sum ≤ 8) (hd : decode cc pc = .ok (.invokestatic idx, 3))
    (kk : ∀ x σ1, VM Γ G QB (k x) σ1 (pc + 3) lv (va_rf x :: rest)) : VM Γ G QB (bd f k) σ pc lv st := VM.callSW hG As n hC hw hd2 hRm hn hst hrest hd kk
theorem v_callVWi (hG : Gk Γ G own cc F L rt0) {f : Nat → Mr Int32} {k : Int32 → Mr β} {kd : Nat} {C : String} {T : u_T} {N : Nat} {y : MethodName} {b : ByteArray} {nl F' L' idx : Nat} {ret : Option FieldType} {hh : List (Nat × Nat × Nat × Nat)} {r : Option Nat} (As : List Value) {rest : List Value} (n : Nat)
    (hC : ∀ h, Ct Γ y (wsW_ y b nl ret hh) F' L' evI (f h) (.ref h :: As)) (hw : GoodIn lw_all (wsV own idx C y (wsW_ y b nl ret hh))) (hc : vwAll[kd - 1]? = some (C, T, N)) (h0 : 0 < kd ∧ kd < 40)
    (hd2 : y.cls = C ∧ y.cls ≠ "java/lang/invoke/MethodHandle" ∧ y.cls ≠ "java/lang/invoke/VarHandle" ∧ (parseMethodDescriptor y.desc).map (fun d => d.parameters.length) = some n) (hRm : F' + 1 ≤ F ∧ 8 + (nl + 11) + L' ≤ L) (hn : As.length = n) (hst : st = As.reverse ++ va_rf r :: rest) (hrest : (rest.map fun v => v.category).sum ≤ 8) (hd : decode cc pc = .ok (.invokevirtual idx, 3))
    (kk : ∀ x σ1, VM Γ G QB (k x) σ1 (pc + 3) lv (.int x :: rest)) : VM Γ G QB (bd (rc kd r) fun h => bd (f h) k) σ pc lv st := VM.callVW hG As n hC hw hc h0 hd2 hRm hn hst hrest hd kk
theorem v_callVWu (hG : Gk Γ G own cc F L rt0) {f : Nat → Mr Unit} {k : Unit → Mr β} {kd : Nat} {C : String} {T : u_T} {N : Nat} {y : MethodName} {b : ByteArray} {nl F' L' idx : Nat} {ret : Option FieldType} {hh : List (Nat × Nat × Nat × Nat)} {r : Option Nat} (As : List Value) {rest : List Value} (n : Nat)
    (hC : ∀ h, Ct Γ y (wsW_ y b nl ret hh) F' L' evU (f h) (.ref h :: As)) (hw : GoodIn lw_all (wsV own idx C y (wsW_ y b nl ret hh))) (hc : vwAll[kd - 1]? = some (C, T, N)) (h0 : 0 < kd ∧ kd < 40)
    (hd2 : y.cls = C ∧ y.cls ≠ "java/lang/invoke/MethodHandle" ∧ y.cls ≠ "java/lang/invoke/VarHandle" ∧ (parseMethodDescriptor y.desc).map (fun d => d.parameters.length) = some n) (hRm : F' + 1 ≤ F ∧ 8 + (nl + 11) + L' ≤ L) (hn : As.length = n) (hst : st = As.reverse ++ va_rf r :: rest) (hrest : (rest.map fun v => v.category).sum ≤ 8) (hd : decode cc pc = .ok (.invokevirtual idx, 3))
    (kk : ∀ x σ1, VM Γ G QB (k x) σ1 (pc + 3) lv (rest)) : VM Γ G QB (bd (rc kd r) fun h => bd (f h) k) σ pc lv st := VM.callVW hG As n hC hw hc h0 hd2 hRm hn hst hrest hd kk
theorem v_callVWr (hG : Gk Γ G own cc F L rt0) {f : Nat → Mr (Option Nat)} {k : Option Nat → Mr β} {kd : Nat} {C : String} {T : u_T} {N : Nat} {y : MethodName} {b : ByteArray} {nl F' L' idx : Nat} {ret : Option FieldType} {hh : List (Nat × Nat × Nat × Nat)} {r : Option Nat} (As : List Value) {rest : List Value} (n : Nat)
    (hC : ∀ h, Ct Γ y (wsW_ y b nl ret hh) F' L' evR (f h) (.ref h :: As)) (hw : GoodIn lw_all (wsV own idx C y (wsW_ y b nl ret hh))) (hc : vwAll[kd - 1]? = some (C, T, N)) (h0 : 0 < kd ∧ kd < 40)
    (hd2 : y.cls = C ∧ y.cls ≠ "java/lang/invoke/MethodHandle" ∧ y.cls ≠ "java/lang/invoke/VarHandle" ∧ (parseMethodDescriptor y.desc).map (fun d => d.parameters.length) = some n) (hRm : F' + 1 ≤ F ∧ 8 + (nl + 11) + L' ≤ L) (hn : As.length = n) (hst : st = As.reverse ++ va_rf r :: rest) (hrest : (rest.map fun v => v.category).sum ≤ 8) (hd : decode cc pc = .ok (.invokevirtual idx, 3))
    (kk : ∀ x σ1, VM Γ G QB (k x) σ1 (pc + 3) lv (va_rf x :: rest)) : VM Γ G QB (bd (rc kd r) fun h => bd (f h) k) σ pc lv st := VM.callVW hG As n hC hw hc h0 hd2 hRm hn hst hrest hd kk
theorem vx_L.of {args : Array Value} {s : State} {C n d : String} {A : Nat → Prop} (hl : (Cond.laysStatic C n d).before args s = true) (hA : ∀ a : Nat, a < s.heap.size → ¬ A a) : vx_L C n d A s s.heap := by
  obtain ⟨c, k, i, f, a, cell, h1, h2, h3, h4, h5, h6, h7, h8, h9⟩ := Cond.laysStatic_spec hl
  exact ⟨c, k, i, f, a, cell, h1, h2, h3, h4, h5, h6, h7, h8, h9, hA a (Array.getElem?_eq_some_iff.mp h5).1⟩
theorem Gk.zq (hG : Gk Γ G own cc F L rt0) {C n d : String} {r : Option Nat} (hz : gaZ Γ C n d (va_rf r)) (hl : Cond.laysStatic C n d ∈ lw_tbl) : vx_Zq C n d (fun q => gaB Γ ≤ q) (geS G) (geS G).heap := by
  obtain ⟨a0, ht⟩ := hG.ok.1
  have h1 : vx_L C n d (fun q => gaB Γ ≤ q) Γ.1.1 Γ.1.1.heap := vx_L.of (ht _ hl) (fun a h => Nat.not_le.mpr h)
  have h2 : va_Zq C n d (fun q => gaB Γ ≤ q) Γ.1.1 Γ.1.1.heap := by
    cases r with
    | none => exact Or.inl hz
    | some t => exact Or.inr ⟨t, hz⟩
  exact vx_Zq.moved hG.cx.1.alike (vx_Zq.kept ⟨h2, h1⟩ (fun a ha _ => hG.cx.2 a ha))
theorem Gk.zU (hG : Gk Γ G own cc F L rt0) (hl : Cond.laysStatic Bundle.tN "UNASSIGNED_STACK" Bundle.steD ∈ lw_tbl) : vx_Zq Bundle.tN "UNASSIGNED_STACK" Bundle.steD (fun q => gaB Γ ≤ q) (geS G) (geS G).heap := hG.zq hG.z2 hl
theorem Gk.zN (hG : Gk Γ G own cc F L rt0) (hl : Cond.laysStatic Bundle.tN "SUPPRESSED_SENTINEL" Bundle.listD ∈ lw_tbl) : vx_Zq Bundle.tN "SUPPRESSED_SENTINEL" Bundle.listD (fun q => gaB Γ ≤ q) (geS G) (geS G).heap := hG.zq hG.z3 hl
theorem v_tw0 (hG : Gk Γ G own cc F L rt0) (hE : geE G = []) {α : Type} {ev : α → Option Value} {e ik ic : Nat} {cls : String} {names : List String} (he : exC e = cls) (hcls : Bundle.fit cls = true) (hnames : ∀ n ∈ names, Bundle.fit n = true) (hk : Cond.classLink own ik cls ∈ lw_all) (hini : Cond.initialized cls ∈ lw_all)
    (hat : ∀ w ∈ Bundle.ownAtoms0 own ic cls names, w.before G.2.1.2.2.1 (geS G) = true) (hgood : ∀ w ∈ Cond.classLink own ik cls :: Cond.initialized cls :: vx_at0 own ic cls names, vx_ot w = true) (hF : names.length + 3 < F) (hL : (st.map fun v => v.category).sum + (13 * (names.length + 1) + 42) ≤ L)
    (hU : vx_Zq Bundle.tN "UNASSIGNED_STACK" Bundle.steD (fun q => gaB Γ ≤ q) (geS G) (geS G).heap) (hN : vx_Zq Bundle.tN "SUPPRESSED_SENTINEL" Bundle.listD (fun q => gaB Γ ≤ q) (geS G) (geS G).heap)
    (d0 : decode cc pc = .ok (.new ik, 3)) (d3 : decode cc (pc + 3) = .ok (.dup, 1)) (d4 : decode cc (pc + 4) = .ok (.invokespecial ic, 3)) (d7 : decode cc (pc + 7) = .ok (.athrow, 1)) : VM Γ G (QX Γ G ev) (tw e 6) σ pc lv st := by
  intro r σ' hm hr H locs cells slots ls hW hF2 hcs hl
  unfold tw at hm
  rw [run_wr, if_pos rfl] at hm
  cases hm
  have e1 : hSz (hNew σ 0 0 6 (fun _ => 0) (fun _ => none)) = hSz σ + 1 := rfl
  have e2 : hSl (hNew σ 0 0 6 (fun _ => 0) (fun _ => none)) = hSl σ + 6 := rfl
  rw [e1, e2] at hr
  have h1 := hcs.1
  have h2 := hcs.2
  refine vx_throw0 (A := fun q => gaB Γ ≤ q) hG.exec hG.bytes hG.ok.2.2.1 hG.own hcls hnames (hG.hts _ hk) (hG.hts _ hini) (fun w hw => hat w (List.mem_filter.mp hw).1) hgood hU hN ⟨hF2.2.1, fun q hq hA => hF2.1 q (Nat.lt_of_not_le hA), hF2.2.2⟩ (by rw [hl.1]; exact hG.maxL.symm) d0 d3 d4 d7
    (fun x hx => by have hx : x ∈ geE G := hx; rw [hE] at hx; cases hx) (by have e := hG.frames; rw [← e] at hF; exact hF) (by have e := hG.locals; rw [← e] at hL; exact hL) (by show cells + 1 ≤ (geR G).cells; omega) (by show slots + 6 ≤ (geR G).slots; omega) hG.locks (fun t ha hsz ho => ?_) hF2.2.2 (by rw [e1]; omega) (by rw [e2]; omega)
  refine ⟨he.symm, hW.1.symm, hW.mk hsz ho (fun h => absurd rfl h), fun q hq => ?_, by rw [hsz]; exact Nat.le_succ_of_le hF2.2.1⟩
  rw [ho q (Nat.lt_of_lt_of_le hq (Nat.le_trans hG.base hF2.2.1))]
  exact hF2.1 q hq
theorem ex_at1 (hG : Gk Γ G RX1 cc F L rt0) : ∀ w ∈ Bundle.ownAtoms0 RX1 86 "java/lang/IllegalArgumentException" ["java/lang/RuntimeException", "java/lang/Exception"], w.before G.2.1.2.2.1 (geS G) = true :=
  vx_c (hG.hts _ q122) (vx_c (hG.hts _ q516) (vx_c (hG.hts _ q525) (vx_c (hG.hts _ q532) (vx_c (hG.hts _ q535) (vx_c (hG.hts _ q537) (vx_c (hG.hts _ q517) (vx_c (hG.hts _ q518) (vx_c (hG.hts _ q153) (vx_c (hG.hts _ q154) (vx_c (hG.hts _ q519) (vx_c (hG.hts _ q524) (vx_c (hG.hts _ q533) (vx_c (hG.hts _ q628) (vx_c (hG.hts _ q506) (vx_c (hG.hts _ q629) (vx_c (hG.hts _ q508) (vx_c (hG.hts _ q630) (vx_c (hG.hts _ q510) (vx_c (hG.hts _ q520) (vx_c (hG.zU q521).2.word (vx_c (hG.hts _ q522) (vx_c (hG.zN q523).2.word (vx_c (hG.hts _ q512) (vx_c (hG.hts _ q916) (vx_c (hG.hts _ q917) (vx_c (hG.hts _ q918) (vx_c (hG.hts _ q898) (vx_c (va_Nw.use rfl (hG.nw q497 rfl fun hW hZ => va_Nw.warmD hW hZ)) (vx_c (hG.hts _ q898) (vx_c (hG.hts _ q899) (vx_c (hG.hts _ q900) (vx_c (hG.hts _ q901) (vx_c (va_Nw.use rfl (hG.nw q499 rfl fun hW hZ => va_Nw.warmD hW hZ)) (vx_c (hG.hts _ q901) (vx_c (hG.hts _ q902) (vx_c (hG.hts _ q903) (vx_c (hG.hts _ q517) (vx_c (va_Nw.use rfl (hG.nw q501 rfl fun hW hZ => va_Nw.warmD hW hZ)) (vx_c (hG.hts _ q915) (vx_c (hG.hts _ q495) (vx_c (va_Nw.use rfl (hG.nw q496 rfl fun hW hZ => va_Nw.warmC hW hZ)) (vx_c (hG.hts _ q503) (vx_c (hG.hts _ q504) (vx_c (hG.hts _ q505) (vx_c (hG.hts _ q507) (vx_c (hG.hts _ q509) (vx_c (hG.hts _ q511) (vx_c (vx_isRefq (hG.zU q521).1) (vx_c (vx_isRefq (hG.zN q523).1) (vx_c (hG.hts _ q515) (vx_c (hG.hts _ q514) (vx_c (hG.hts _ q513) (vx_n)))))))))))))))))))))))))))))))))))))))))))))))))))))
theorem v_tw1 (hG : Gk Γ G RX1 cc F L rt0) (hE : geE G = []) {α : Type} {ev : α → Option Value} (hF : 5 < F) (hL : (st.map fun v => v.category).sum + 81 ≤ L) (d0 : decode cc pc = .ok (.new 84, 3)) (d3 : decode cc (pc + 3) = .ok (.dup, 1)) (d4 : decode cc (pc + 4) = .ok (.invokespecial 86, 3)) (d7 : decode cc (pc + 7) = .ok (.athrow, 1)) : VM Γ G (QX Γ G ev) (tw 1 6) σ pc lv st :=
  v_tw0 hG hE (e := 1) rfl (by decide) (by decide) q914 q126 (ex_at1 hG) (by decide +kernel) hF hL (hG.zU q521) (hG.zN q523) d0 d3 d4 d7
theorem ex_at2 (hG : Gk Γ G RX1 cc F L rt0) : ∀ w ∈ Bundle.ownAtoms0 RX1 83 "java/lang/IndexOutOfBoundsException" ["java/lang/RuntimeException", "java/lang/Exception"], w.before G.2.1.2.2.1 (geS G) = true :=
  vx_c (hG.hts _ q122) (vx_c (hG.hts _ q516) (vx_c (hG.hts _ q525) (vx_c (hG.hts _ q532) (vx_c (hG.hts _ q535) (vx_c (hG.hts _ q537) (vx_c (hG.hts _ q517) (vx_c (hG.hts _ q518) (vx_c (hG.hts _ q153) (vx_c (hG.hts _ q154) (vx_c (hG.hts _ q519) (vx_c (hG.hts _ q524) (vx_c (hG.hts _ q533) (vx_c (hG.hts _ q628) (vx_c (hG.hts _ q506) (vx_c (hG.hts _ q629) (vx_c (hG.hts _ q508) (vx_c (hG.hts _ q630) (vx_c (hG.hts _ q510) (vx_c (hG.hts _ q520) (vx_c (hG.zU q521).2.word (vx_c (hG.hts _ q522) (vx_c (hG.zN q523).2.word (vx_c (hG.hts _ q512) (vx_c (hG.hts _ q895) (vx_c (hG.hts _ q896) (vx_c (hG.hts _ q897) (vx_c (hG.hts _ q898) (vx_c (va_Nw.use rfl (hG.nw q497 rfl fun hW hZ => va_Nw.warmD hW hZ)) (vx_c (hG.hts _ q898) (vx_c (hG.hts _ q899) (vx_c (hG.hts _ q900) (vx_c (hG.hts _ q901) (vx_c (va_Nw.use rfl (hG.nw q499 rfl fun hW hZ => va_Nw.warmD hW hZ)) (vx_c (hG.hts _ q901) (vx_c (hG.hts _ q902) (vx_c (hG.hts _ q903) (vx_c (hG.hts _ q517) (vx_c (va_Nw.use rfl (hG.nw q501 rfl fun hW hZ => va_Nw.warmD hW hZ)) (vx_c (hG.hts _ q894) (vx_c (hG.hts _ q886) (vx_c (va_Nw.use rfl (hG.nw q887 rfl fun hW hZ => va_Nw.warmC hW hZ)) (vx_c (hG.hts _ q888) (vx_c (hG.hts _ q530) (vx_c (hG.hts _ q889) (vx_c (hG.hts _ q890) (vx_c (hG.hts _ q891) (vx_c (hG.hts _ q892) (vx_c (vx_isRefq (hG.zU q521).1) (vx_c (vx_isRefq (hG.zN q523).1) (vx_c (hG.hts _ q515) (vx_c (hG.hts _ q514) (vx_c (hG.hts _ q893) (vx_n)))))))))))))))))))))))))))))))))))))))))))))))))))))
theorem v_tw2 (hG : Gk Γ G RX1 cc F L rt0) (hE : geE G = []) {α : Type} {ev : α → Option Value} (hF : 5 < F) (hL : (st.map fun v => v.category).sum + 81 ≤ L) (d0 : decode cc pc = .ok (.new 81, 3)) (d3 : decode cc (pc + 3) = .ok (.dup, 1)) (d4 : decode cc (pc + 4) = .ok (.invokespecial 83, 3)) (d7 : decode cc (pc + 7) = .ok (.athrow, 1)) : VM Γ G (QX Γ G ev) (tw 2 6) σ pc lv st :=
  v_tw0 hG hE (e := 2) rfl (by decide) (by decide) q885 q137 (ex_at2 hG) (by decide +kernel) hF hL (hG.zU q521) (hG.zN q523) d0 d3 d4 d7
theorem ex_at3 (hG : Gk Γ G RX1 cc F L rt0) : ∀ w ∈ Bundle.ownAtoms0 RX1 89 "java/lang/IllegalStateException" ["java/lang/RuntimeException", "java/lang/Exception"], w.before G.2.1.2.2.1 (geS G) = true :=
  vx_c (hG.hts _ q122) (vx_c (hG.hts _ q516) (vx_c (hG.hts _ q525) (vx_c (hG.hts _ q532) (vx_c (hG.hts _ q535) (vx_c (hG.hts _ q537) (vx_c (hG.hts _ q517) (vx_c (hG.hts _ q518) (vx_c (hG.hts _ q153) (vx_c (hG.hts _ q154) (vx_c (hG.hts _ q519) (vx_c (hG.hts _ q524) (vx_c (hG.hts _ q533) (vx_c (hG.hts _ q628) (vx_c (hG.hts _ q506) (vx_c (hG.hts _ q629) (vx_c (hG.hts _ q508) (vx_c (hG.hts _ q630) (vx_c (hG.hts _ q510) (vx_c (hG.hts _ q520) (vx_c (hG.zU q521).2.word (vx_c (hG.hts _ q522) (vx_c (hG.zN q523).2.word (vx_c (hG.hts _ q512) (vx_c (hG.hts _ q1707) (vx_c (hG.hts _ q1708) (vx_c (hG.hts _ q1709) (vx_c (hG.hts _ q898) (vx_c (va_Nw.use rfl (hG.nw q497 rfl fun hW hZ => va_Nw.warmD hW hZ)) (vx_c (hG.hts _ q898) (vx_c (hG.hts _ q899) (vx_c (hG.hts _ q900) (vx_c (hG.hts _ q901) (vx_c (va_Nw.use rfl (hG.nw q499 rfl fun hW hZ => va_Nw.warmD hW hZ)) (vx_c (hG.hts _ q901) (vx_c (hG.hts _ q902) (vx_c (hG.hts _ q903) (vx_c (hG.hts _ q517) (vx_c (va_Nw.use rfl (hG.nw q501 rfl fun hW hZ => va_Nw.warmD hW hZ)) (vx_c (hG.hts _ q1706) (vx_c (hG.hts _ q1032) (vx_c (va_Nw.use rfl (hG.nw q1033 rfl fun hW hZ => va_Nw.warmC hW hZ)) (vx_c (hG.hts _ q1034) (vx_c (hG.hts _ q529) (vx_c (hG.hts _ q1035) (vx_c (hG.hts _ q1036) (vx_c (hG.hts _ q1037) (vx_c (hG.hts _ q1038) (vx_c (vx_isRefq (hG.zU q521).1) (vx_c (vx_isRefq (hG.zN q523).1) (vx_c (hG.hts _ q515) (vx_c (hG.hts _ q514) (vx_c (hG.hts _ q1039) (vx_n)))))))))))))))))))))))))))))))))))))))))))))))))))))
theorem v_tw3 (hG : Gk Γ G RX1 cc F L rt0) (hE : geE G = []) {α : Type} {ev : α → Option Value} (hF : 5 < F) (hL : (st.map fun v => v.category).sum + 81 ≤ L) (d0 : decode cc pc = .ok (.new 87, 3)) (d3 : decode cc (pc + 3) = .ok (.dup, 1)) (d4 : decode cc (pc + 4) = .ok (.invokespecial 89, 3)) (d7 : decode cc (pc + 7) = .ok (.athrow, 1)) : VM Γ G (QX Γ G ev) (tw 3 6) σ pc lv st :=
  v_tw0 hG hE (e := 3) rfl (by decide) (by decide) q1705 q125 (ex_at3 hG) (by decide +kernel) hF hL (hG.zU q521) (hG.zN q523) d0 d3 d4 d7
end VR4
/-! LAMBDAS: the forwarder's frame (a class without a name), step by step; a call through an interface that lands there -/
section LZ
variable {p : Program} {l : Launch} {e : Env} {R : Room} {s : State} {m : MethodId} {args : Array Value} {below : List Frame} {meth : Method} {c : Code} {H : Heap} {locs : List Loc} {cells slots : Nat} {Q : State → Prop}
variable {cc : ByteArray} {pc : Nat} {ls : Array Slot} {rest : List Value} {a : Nat}
theorem lz_get (hexec : p.tables.exec = Jvm.exec) (hb : c.code = cc) {index cF sl : Nat} {v : Value} {cell : Cell} (hf : ∀ U : State, s.WarmedH U.vm → ∃ fld : Field, U.vm.fieldReady m.cls index cF fld ∧ fld.isStatic = false ∧ fld.slot = sl)
    (hcell : H[a]? = some cell) (hk : cell.vm ≠ .unknown) (hv : cell.slots[sl]? = some v) (hdg : decode cc pc = .ok (.getfield index, 3))
    (k : W p l e R s m args below meth c H locs cells slots Q (F0 m (pc + 3) ls (v :: rest))) : W p l e R s m args below meth c H locs cells slots Q (F0 m pc ls (.ref a :: rest)) := by
  intro T hT X
  obtain ⟨t, a1, b1⟩ := k T hT X
  obtain ⟨fld, h1, h2, h3⟩ := hf T X.warmed
  refine ⟨t, ?_, b1⟩
  have hdg' : decode c.code pc = .ok (.getfield index, 3) := by rw [hb]; exact hdg
  jvm_step X.here [X.here.top, hexec, hdg', Op.getfield.wp_ready (e := e) (s := T) (c := cF) (field := fld) (a := a) (rest := rest) (cell := cell) (v := v) (f := F0 m pc ls (.ref a :: rest)) X.here.top h1 h2 rfl (by rw [hT]; exact hcell) hk (by rw [h3]; exact hv)]
  exact a1
theorem lz_cast (hexec : p.tables.exec = Jvm.exec) (hb : c.code = cc) {index cT : Nat} {x : Value} (hr : ∀ U : State, s.WarmedH U.vm → U.vm.classReady m.cls index cT)
    (hx : x = .null ∨ ∃ q cell, x = .ref q ∧ H[q]? = some cell ∧ (∀ k, cell.vm ≠ .statics k) ∧ ∀ U : State, s.WarmedH U.vm → ∃ ks kt, U.vm.classes[cell.cls]? = some ks ∧ U.vm.classes[cT]? = some kt ∧ U.vm.assignable cell.cls cT = true)
    (hdg : decode cc pc = .ok (.checkcast index, 3)) (k : W p l e R s m args below meth c H locs cells slots Q (F0 m (pc + 3) ls (x :: rest))) : W p l e R s m args below meth c H locs cells slots Q (F0 m pc ls (x :: rest)) := by
  intro T hT X
  obtain ⟨t, a1, b1⟩ := k T hT X
  refine ⟨t, ?_, b1⟩
  have hdg' : decode c.code pc = .ok (.checkcast index, 3) := by rw [hb]; exact hdg
  have hr' := hr T X.warmed
  rcases hx with rfl | ⟨q, cell, rfl, h1, h2, h3⟩
  · jvm_step X.here [X.here.top, hexec, hdg', Op.checkcast.wp_ready (e := e) (s := T) (c := cT) (x := .null) (rest := rest) (f := F0 m pc ls (.null :: rest)) X.here.top hr' rfl]
    exact a1
  · obtain ⟨ks, kt, h4, h5, h6⟩ := h3 T X.warmed
    jvm_step X.here [X.here.top, hexec, hdg', Op.checkcast.wp_ready (e := e) (s := T) (c := cT) (x := .ref q) (rest := rest) (f := F0 m pc ls (.ref q :: rest)) X.here.top hr' rfl]
    exact ⟨cell, by rw [hT]; exact h1, h2, ks, h4, kt, h5, by rw [if_pos h6]; exact a1⟩
/-- the target of a static forward, of a forward to an instance method -/
def lz_tS (e : Env) (s : State) (cK : ClassId) (index : Nat) (y : MethodName) (n : Nat) : Prop := ∀ U : State, s.WarmedH U.vm → plainRef U e cK index ∧ ∃ (t : MethodId) (kt : Class) (metht : Method), U.vm.methodReady cK index t ∧ U.vm.classes[t.cls]? = some kt ∧ U.vm.method? t = some metht ∧ signaturePolymorphic kt metht = false ∧ metht.isStatic = true ∧ kt.init = .initialized ∧ U.methodNamed? y = some t ∧ n = metht.sig.parameters.length
def lz_tV (s : State) (cK : ClassId) (index : Nat) (y : MethodName) (n : Nat) (cB : ClassId) : Prop := ∀ U : State, s.WarmedH U.vm → namesAClass U cK index ∧ ∃ (t : MethodId) (kt : Class) (metht : Method), U.vm.methodReady cK index t ∧ U.vm.classes[t.cls]? = some kt ∧ U.vm.method? t = some metht ∧ signaturePolymorphic kt metht = false ∧ metht.isStatic = false ∧ U.methodNamed? y = some t ∧ n = metht.sig.parameters.length ∧ selectMethod {} U.vm cB t = .method t ∧ metht.isAbstract = false ∧ kt.isInterface = false
theorem lz_runS {y : MethodName} {n index mc ms : Nat} {ws : List Cond} {rm : Room} {bytes : ByteArray} {maxL : Nat} {ret : Option FieldType} {Pc : Array Value → State → Prop} {Qc : Array Value → State → Outcome → State → Prop} {free : Addr → Prop} {As : List Value} {g : JFrame}
    (hexec : p.tables.exec = Jvm.exec) (hb : c.code = cc) (hM : Met l y ws rm Pc Qc mc ms free) (hrc : rm.cells = mc) (hrs : rm.slots = ms) (hfr : rm.frames + 1 ≤ R.frames) (hlo : 0 + (maxL + 11) + rm.locals ≤ R.locals)
    (hws : ∀ w ∈ ws, ∀ (a' : Array Value) (U : State), s.WarmedH U.vm → w.before a' U = true) (hcode : Cond.code y bytes maxL ret ∈ ws) (hini : ∀ (a' : Array Value) (U : State), s.WarmedH U.vm → (Cond.initialized y.cls).before a' U = true)
    (hT : lz_tS e s m.cls index y n) (hp : PreS s H Pc As) (hg : g.method = m) (hn : As.length = n) (hsize : g.locals.size = c.maxLocals) (hstack : g.stack = As.reverse) (hmon : 2 * g.monitorRoom ≤ 0) (hdg : decode cc g.pc = .ok (.invokestatic index, 3)) (hf : cells + mc ≤ R.cells ∧ slots + ms ≤ R.slots) :
    va_Run p l e R s m args below meth c H locs cells slots mc ms g [] (Qc As.toArray) free := by
  have hK : Back l R p e below s args y 3 0 (PreOf R mc ms Pc) (PostOf Qc mc ms free) := back_of (bytes := bytes) (maxL := maxL) (ret := ret) hM hp.1 hrc hrs hfr hlo hws hcode hini
  intro T hH X
  subst hg
  obtain ⟨href, t, kt, metht, h1, h2, h3, h4, h5, h6, h7, h8⟩ := hT T X.warmed
  have hpre : PreOf R mc ms Pc ⟨T, locs, cells, slots⟩ As.toArray := ⟨hf.1, hf.2, hp.2 T hH X.warmed⟩
  obtain ⟨v, ⟨U', l2, c2, s2⟩, X', ⟨g', mk, t2, L, e1, e2, hq, q1, hL, q2, q3⟩, hsteps⟩ := hK g.method meth c ⟨T, locs, cells, slots⟩ { g with stack := [] } (.invokestatic index) t As.toArray X rfl hsize (by rw [hb]; exact hdg) (by simpa using hmon) h7 hpre
  dsimp only [Pt.U, Pt.locs, Pt.cells, Pt.slots] at X' e1 e2 q1 q2 q3 hsteps
  subst q1; subst q2; subst q3
  refine ⟨v, T.calling g' mk As.toArray, t2, U', L, hH, X', hL, e1, e2, hq, fun target hrest => ?_⟩
  have hdg' : decode c.code g.pc = .ok (.invokestatic index, 3) := by rw [hb]; exact hdg
  jvm_step X.here [X.here.top, hexec, hdg', Op.invokestatic.wp_ready (e := e) (s := T) (m := t) (k := kt) (meth := metht) (args := As) (rest := []) (f := g) X.here.top href h1 h2 h3 h4 h5 h6 (hn.trans h8) (by rw [hstack, List.append_nil])]
  intro acts
  rw [doInvoke_state]
  exact hsteps.trans hrest
theorem lz_runV {y : MethodName} {n index mc ms : Nat} {ws : List Cond} {rm : Room} {bytes : ByteArray} {maxL : Nat} {ret : Option FieldType} {Pc : Array Value → State → Prop} {Qc : Array Value → State → Outcome → State → Prop} {free : Addr → Prop} {As : List Value} {g : JFrame} {b : Nat} {cellB : Cell}
    (hexec : p.tables.exec = Jvm.exec) (hb : c.code = cc) (hM : Met l y ws rm Pc Qc mc ms free) (hrc : rm.cells = mc) (hrs : rm.slots = ms) (hfr : rm.frames + 1 ≤ R.frames) (hlo : 0 + (maxL + 11) + rm.locals ≤ R.locals)
    (hws : ∀ w ∈ ws, ∀ (a' : Array Value) (U : State), s.WarmedH U.vm → w.before a' U = true) (hcode : Cond.code y bytes maxL ret ∈ ws) (hini : ∀ (a' : Array Value) (U : State), s.WarmedH U.vm → (Cond.initialized y.cls).before a' U = true)
    (hcB : H[b]? = some cellB) (hoB : ∀ q, cellB.vm ≠ .statics q) (hT : lz_tV s m.cls index y n cellB.cls) (hp : FrameBlind Pc ∧ ∀ U : State, U.heap = H → s.WarmedH U.vm → Pc (Value.ref b :: As).toArray U) (hg : g.method = m) (hn : As.length = n) (hsize : g.locals.size = c.maxLocals) (hstack : g.stack = As.reverse ++ [.ref b]) (hmon : 2 * g.monitorRoom ≤ 0) (hdg : decode cc g.pc = .ok (.invokevirtual index, 3)) (hf : cells + mc ≤ R.cells ∧ slots + ms ≤ R.slots) :
    va_Run p l e R s m args below meth c H locs cells slots mc ms g [] (Qc (Value.ref b :: As).toArray) free := by
  have hK : Back l R p e below s args y 3 0 (PreOf R mc ms Pc) (PostOf Qc mc ms free) := back_of (bytes := bytes) (maxL := maxL) (ret := ret) hM hp.1 hrc hrs hfr hlo hws hcode hini
  intro T hH X
  subst hg
  obtain ⟨hnc, t, kt, metht, h1, h2, h3, h4, h5, h6, h7, h8, h9, h10⟩ := hT T X.warmed
  have hpre : PreOf R mc ms Pc ⟨T, locs, cells, slots⟩ (Value.ref b :: As).toArray := ⟨hf.1, hf.2, hp.2 T hH X.warmed⟩
  obtain ⟨v, ⟨U', l2, c2, s2⟩, X', ⟨g', mk, t2, L, e1, e2, hq, q1, hL, q2, q3⟩, hsteps⟩ := hK g.method meth c ⟨T, locs, cells, slots⟩ { g with stack := [] } (.invokevirtual index) t (Value.ref b :: As).toArray X rfl hsize (by rw [hb]; exact hdg) (by simpa using hmon) h6 hpre
  dsimp only [Pt.U, Pt.locs, Pt.cells, Pt.slots] at X' e1 e2 q1 q2 q3 hsteps
  subst q1; subst q2; subst q3
  refine ⟨v, T.calling g' mk (Value.ref b :: As).toArray, t2, U', L, hH, X', hL, e1, e2, hq, fun target hrest => ?_⟩
  have hdg' : decode c.code g.pc = .ok (.invokevirtual index, 3) := by rw [hb]; exact hdg
  have hsel : selectMethod e.platform T.vm cellB.cls t = .method t := by rw [Launch.admits_selectMethod X.admits]; exact h8
  jvm_step X.here [X.here.top, hexec, hdg', Op.invokevirtual.wp_ready (e := e) (s := T) (r := t) (m := t) (k := kt) (mk := kt) (rmeth := metht) (meth := metht) (a := b) (args := As) (rest := []) (cell := cellB) (f := g) X.here.top hnc h1 h2 h3 h4 h5 (hn.trans h7) hstack (by rw [hH]; exact hcB) hoB hsel h3 h9 h2 h10]
  intro acts
  rw [doInvoke_state]
  exact hsteps.trans hrest
/-- a call through an interface of an object whose class has no name: its second method m' runs -/
theorem lz_run5 {x : MethodName} {own : String} {index count mc ms : Nat} {Qc : Array Value → State → Outcome → State → Prop} {free : Addr → Prop} {As : List Value} {g : JFrame} {b : Nat} {cellB : Cell} {kK : Class} {m' : MethodId} {methk : Method} {ck : Code} {R' : Room} {r0 : MethodId} {r : Method} {kL : Class}
    (hexec : p.tables.exec = Jvm.exec) (hb : c.code = cc) (hown : s.vm.findClass own = some m.cls) (hlink : (Cond.methodLink own index x).before args s = true) (hx : x.cls ≠ "java/lang/invoke/MethodHandle" ∧ x.cls ≠ "java/lang/invoke/VarHandle")
    (hn0 : s.methodNamed? x = some r0) (hrm : s.vm.method? r0 = some r) (hstR : r.isStatic = false) (hkL : s.vm.classes[r0.cls]? = some kL) (hiL : kL.isInterface = true) (hlen : As.length = r.sig.parameters.length)
    (hcB : H[b]? = some cellB) (hoB : cellB.vm = .none) (hkK : s.vm.classes[cellB.cls]? = some kK) (hasg : s.vm.assignable cellB.cls r0.cls = true) (hsel : selectMethod {} s.vm cellB.cls r0 = .method m') (hmk : s.vm.method? m' = some methk)
    (hway : ((cellB.cls :: s.vm.superclasses cellB.cls).any fun k => (declaredIn s.vm r.name r.desc k).any fun (_, x) => x.isPrivate || x.isStatic) = false) (hfl : methk.accessFlags = 1) (hck : methk.code = some ck) (hlk : methk.locks = false) (hpk : ∀ U : State, s.WarmedH U.vm → U.plainMethod m')
    (hg : g.method = m) (hsize : g.locals.size = c.maxLocals) (hstack : g.stack = As.reverse ++ .ref b :: rest) (hW : 2 * g.monitorRoom + (rest.map fun v => v.category).sum ≤ 8) (hdg : decode cc g.pc = .ok (.invokeinterface index count, 5))
    (hfr : R'.frames + 1 ≤ R.frames) (hlo : 8 + (ck.maxLocals + 11) + R'.locals ≤ R.locals) (hc : R'.cells = mc) (hs : R'.slots = ms) (hf : cells + mc ≤ R.cells ∧ slots + ms ≤ R.slots)
    (body : ∀ (s' : State) (below' : List Frame), s'.heap = H → s.WarmedH s'.vm → W p l e R' s' m' (Value.ref b :: As).toArray below' methk ck H [] 0 0 (MQ below' Qc (Value.ref b :: As).toArray s' mc ms free) (entryFrame m' (Value.ref b :: As).toArray ck.maxLocals)) :
    va_Run5 p l e R s m args below meth c H locs cells slots mc ms g rest (Qc (Value.ref b :: As).toArray) free := by
  intro T hT X
  have hdg' : decode c.code g.pc = .ok (.invokeinterface index count, 5) := by rw [hb]; exact hdg
  obtain ⟨vm₁, X₁, hstep₁⟩ := X.invokeinterface hexec hown hlink hn0 hrm hstR hkL hiL hx (a := b) (cell := cellB) (kcell := kK) (by rw [hT]; exact hcB) (fun z h => by rw [hoB] at h; cases h) hkK hasg
    (m' := m') (meth' := methk) (by rw [Launch.admits_selectMethod X.admits]; exact hsel) hmk hway (by rw [hfl]; decide) (by simp [Method.isAbstract, hfl, hasFlag, Acc.abstract])
    (g := g) hg (argsL := As) (rest := rest) hlen hstack hdg'
  have hmk₁ : (T.setVm vm₁).vm.method? m' = some methk := by rw [X₁.warmed.alike.method?]; exact hmk
  have hlo₁ : 2 * g.monitorRoom + (rest.map fun v => v.category).sum + (ck.maxLocals + 11) + R'.locals ≤ R.locals := by omega
  obtain ⟨Y₀, hin⟩ := X₁.into (g := { g with stack := rest }) hg hsize hdg' (Value.ref b :: As).toArray (R' := R') hmk₁ hck hlk (hpk (T.setVm vm₁) X₁.warmed) hfr hlo₁ (by rw [hc]; exact hf.1) (by rw [hs]; exact hf.2)
  have hh : ((T.setVm vm₁).calling { g with stack := rest } m' (Value.ref b :: As).toArray).heap = H := hT
  obtain ⟨t, a1, o, b1, b2, hq, L, ⟨⟨v, hv⟩, hWe, hsame⟩, hL⟩ := body ((T.setVm vm₁).calling { g with stack := rest } m' (Value.ref b :: As).toArray) (.java { g with stack := rest } :: below) hh X₁.warmed _ (by exact hT) Y₀
  subst hv
  obtain ⟨T', X', hW', -, ht⟩ := X₁.outOf (g := { g with stack := rest }) hg hdg' b2 hWe hsame
  refine ⟨v, (T.setVm vm₁).calling { g with stack := rest } m' (Value.ref b :: As).toArray, t, T', L, hT, X', hL, by rw [ht]; rfl, by rw [ht]; rfl, hq, fun target hrest => hstep₁ _ fun acts => ?_⟩
  rw [doInvoke_state, hin []]
  exact (Steps.weaken (mid := [.java { g with stack := rest }]) a1).trans (by rw [ht]; exact hrest)
end LZ
section LZ2
variable {Γ : Ga} {G : Ge} {own : String} {cc : ByteArray} {F L : Nat} {rt0 : Option FieldType} {β : Type} {QB : β → Hp → State → Prop} {mm : Mr β} {σ : Hp} {pc : Nat} {lv : List (Nat × Value)} {st : List Value}
/-- words of the tables at every state of the run -/
theorem Gok.word (hΓ : Gok Γ) {w : Cond} (hw : w ∈ lw_all) {a : Array Value} {U : State} (hU : Γ.1.1.WarmedH U.vm) : w.before a U = true := by
  obtain ⟨a0, h⟩ := hΓ.1
  exact word_at hU (lw_self w hw).2 (h w (lw_all_tbl hw))
theorem Gok.lam (hΓ : Gok Γ) {i : Nat} {x : MethodName} {pc index : Nat} {σL : Lambda.Shape} {cn : String} (hi : lamTab[i]? = some (x, pc, index, σL, cn)) :
    ∃ one, Γ.1.1.lambdaAt? x pc index σL = some (gaA Γ (61 + i), one) ∧ (σL.captured = [] → one = gaS Γ (61 + i)) := hΓ.2.2.2.2.2.2 i _ hi
theorem Gok.lamF (hΓ : Gok Γ) {i : Nat} {x : MethodName} {pc index nl : Nat} {σL : Lambda.Shape} {cn : String} {fwd : ByteArray} {ret : Option FieldType} (hi : lamTab[i]? = some (x, pc, index, σL, cn)) (hx : x.cls = cn) (hz : lzOk σL cn fwd nl ret) (hO : Cond.instantiable "java/lang/Object" 0 ∈ lw_all) {U : State} (hU : Γ.1.1.WarmedH U.vm) :
    lzFc σL cn fwd nl ret U.vm (gaA Γ (61 + i)) := by
  obtain ⟨one, h, -⟩ := hΓ.lam hi
  obtain ⟨m, k, cf, i0, p0, lk, hm, hk, -, -, -, -, hmade, -⟩ := State.lambdaAt?_spec h
  obtain ⟨k', hk', hn⟩ := className_of_methodNamed hm
  cases hk.symm.trans hk'
  obtain ⟨ku, hku, he⟩ := hU.alike.2.2 _ _ hk
  refine lz_made hz hku (by rw [he]; exact hn.trans hx) (Lambda.isMade_warmer hU hmade) (fun o ok ho hok => ?_)
  obtain ⟨c, k2, h1, h2, -, -, -, h6⟩ := Cond.instantiable_spec (hΓ.word hO (a := #[]) hU)
  cases ho.symm.trans h1
  cases hok.symm.trans h2
  exact h6
theorem Wd.lam {H : Heap} {q k : Nat} (hW : Wd Γ σ H) (hk : hK σ q % 100 = k) (h0 : 61 ≤ k) : wcL Γ σ H q k := by
  rcases hW.2.2.2 q (by intro h; rw [h] at hk; omega) with h | h | h | h | h | h
  · omega
  · omega
  · have e : hK σ q = k := by omega
    rw [← e]; exact h.2.2.2
  · omega
  · omega
  · have e : hK σ q - 100 = k := by omega
    rw [← e]; exact h.2.2
/-- a site that captures nothing: its one object -/
theorem v_dynC (hG : Gk Γ G own cc F L rt0) {x : MethodName} (hD : (geS G).methodNamed? x = some (geM G)) {i index : Nat} {σL : Lambda.Shape} {cn : String} {g : Nat → Mr β} (hi : lamTab[i]? = some (x, pc, index, σL, cn)) (hcap : σL.captured = []) (hd : decode cc pc = .ok (.invokedynamic index, 5))
    (hL : (st.map fun v => v.category).sum + 3072 ≤ L) (kk : ∀ q, VM Γ G QB (g q) σ (pc + 5) lv (.ref q :: st)) : VM Γ G QB (bd (gC (61 + i)) g) σ pc lv st := by
  intro y σ' hm hr H locs cells slots ls hW hF hcs hl
  obtain ⟨q, h1, h2⟩ := run_rd_inv hm
  rw [hW.2.2.1] at h1
  obtain ⟨one, h, ho⟩ := hG.ok.lam hi
  obtain ⟨m, k, cf, i0, p0, lk, hmn, hk, -, -, -, hfind, -, -, hlk⟩ := State.lambdaAt?_spec h
  have h1 : gaS Γ (61 + i) = some q := h1
  rw [ho hcap, h1] at hlk
  obtain ⟨k', hk', he⟩ := hG.cx.1.alike.2.2 _ _ hk
  have hm' : m = geM G := by
    have e := State.methodNamed?_setVm (s := Γ.1.1) hG.cx.1.alike x
    have e2 : (geS G).methodNamed? x = (Γ.1.1.setVm (geS G).vm).methodNamed? x := rfl
    rw [← e2, hD, hmn] at e
    exact (Option.some.inj e).symm
  subst hm'
  obtain ⟨a0, cell, e1, e2, -⟩ : ∃ a0 cell, lk = .constant a0 ∧ some q = some a0 ∧ cell = (default : Nat) := by
    rcases hlk with ⟨a0, cell, e1, e2, -⟩ | ⟨-, e2, -⟩
    · exact ⟨a0, default, e1, e2, rfl⟩
    · cases e2
  cases e2
  subst e1
  intro T hT X
  obtain ⟨t, a1, b1⟩ := kk q y σ' h2 hr H locs cells slots ls hW hF hcs hl T hT X
  refine ⟨t, X.lambdaConstant hG.exec (g := F0 (geM G) pc ls st) rfl (by show ls.size = _; rw [hl.1]; exact hG.maxL.symm) (by rw [hG.bytes]; exact hd) hk' (by rw [he]; exact hfind) ?_ a1, b1⟩
  rw [X.admits.platform]
  have e := hG.locals
  rw [← e] at hL
  show 2 * 0 + (st.map fun v => v.category).sum + 3072 ≤ (geR G).locals
  omega
/-- a site that captures: a new object -/
theorem v_dynM (hG : Gk Γ G own cc F L rt0) {x : MethodName} (hD : (geS G).methodNamed? x = some (geM G)) {i index nl n : Nat} {σL : Lambda.Shape} {cn : String} {fwd : ByteArray} {ret : Option FieldType} {g : Nat → Mr β} {vals rest : List Value} {T0 : Array FieldType} {fI : Nat → Int32} {fR : Nat → Option Nat} (hi : lamTab[i]? = some (x, pc, index, σL, cn)) (hb : i < 18) (hx : x.cls = cn) (hz : lzOk σL cn fwd nl ret) (hO : Cond.instantiable "java/lang/Object" 0 ∈ lw_all) (hcap : σL.captured ≠ [])
    (hT0 : (lzL σL cn).2.1 = T0) (hlen : vals.length = σL.captured.length) (hn : vals.length = n) (hst : st = vals.reverse ++ rest) (hnar : ((T0.toList.zip vals).map fun (t, v) => narrow t v) = vals) (hfit : ∀ (j : Nat) (t : FieldType) (v : Value), T0[j]? = some t → vals[j]? = some v → fits t v = true) (hTn : T0.size = n) (hv : ((lamT (61 + i)).zipIdx.map fun p => if p.1 = true then va_rf (fR p.2) else .int (fI p.2)) = vals)
    (hd : decode cc pc = .ok (.invokedynamic index, 5)) (hL : (st.map fun v => v.category).sum + 3072 ≤ L) (kk : ∀ q σ1, VM Γ G QB (g q) σ1 (pc + 5) lv (.ref q :: rest)) : VM Γ G QB (bd (nL (61 + i) n fI fR) g) σ pc lv st := by
  intro y σ' hm hr H locs cells slots ls hW hF hcs hl
  obtain ⟨-, h2⟩ := run_wr_inv hm
  have g2 := run_le h2
  have b1 := g2.1
  have b2 := g2.2.1
  have e1 : hSz (hNew σ (61 + i) 0 n fI fR) = hSz σ + 1 := rfl
  have e2 : hSl (hNew σ (61 + i) 0 n fI fR) = hSl σ + n := rfl
  rw [e1] at b1
  rw [e2] at b2
  have c1 := hcs.1
  have c2 := hcs.2
  obtain ⟨one, h, ho⟩ := hG.ok.lam hi
  obtain ⟨m, k, cf, i0, p0, lk, hmn, hk, hcf, hshape, -, hfind, -, -, hlk⟩ := State.lambdaAt?_spec h
  obtain ⟨k', hk', he⟩ := hG.cx.1.alike.2.2 _ _ hk
  have hm' : m = geM G := by
    have e := State.methodNamed?_setVm (s := Γ.1.1) hG.cx.1.alike x
    have e2 : (geS G).methodNamed? x = (Γ.1.1.setVm (geS G).vm).methodNamed? x := rfl
    rw [← e2, hD, hmn] at e
    exact (Option.some.inj e).symm
  subst hm'
  have hlk' : lk = .makes (gaA Γ (61 + i)) := by
    rcases hlk with ⟨a, cell, -, -, hc, -⟩ | ⟨hh, -, -⟩
    · exact absurd hc hcap
    · exact hh
  subst hlk'
  obtain ⟨bsm, nt, desc, site, hcp, hnt, hsite, hpar⟩ := lz_site hshape
  obtain ⟨kK, -, -, -, -, -, -, -, -, hkK, -, -, -, -, -, -, -, -, -, -, -, -, -, -, -, -, hty, hkind, -⟩ := hG.ok.lamF hi hx hz hO hG.cx.1
  intro T hT X
  have hslE : ((kK.instanceTypes.toList.zip vals).map fun (t, v) => narrow t v) = vals := by rw [hty, hT0]; exact hnar
  obtain ⟨X1, st1⟩ := X.lambdaMakes hG.exec (g := F0 (geM G) pc ls st) rfl (by show ls.size = _; rw [hl.1]; exact hG.maxL.symm) (by rw [hG.bytes]; exact hd) (vals := vals) (rest := rest) hk' (by rw [he]; exact hfind) (by rw [he]; exact hcf) hcp hnt (parseLong_of_parse hsite) (by rw [hpar]; exact hlen) hst hkK
    (by rw [X.admits.platform]; have e := hG.locals; rw [← e] at hL; show 2 * 0 + (st.map fun v => v.category).sum + 3072 ≤ (geR G).locals; omega) (by show cells + 1 ≤ (geR G).cells; omega) (by rw [hslE, hn]; show slots + n ≤ (geR G).slots; omega)
    (fun j v hj => by
      rw [hslE] at hj
      have hj' : vals[j]? = some v := by simpa using hj
      have hlt : j < T0.size := by
        rw [hTn, ← hn]
        exact (List.getElem?_eq_some_iff.mp hj').1
      have := hfit j _ v (Array.getElem?_eq_getElem hlt) hj'
      have ei : kK.instanceTypes[j]? = some T0[j] := by rw [hty, hT0]; exact Array.getElem?_eq_getElem hlt
      have hkK' : G.2.1.1.vm.classes[gaA Γ (61 + i)]? = some kK := hkK
      simp [State.fitsSlot, State.slotType?, hkK', hkind, ei, this])
  rw [hslE] at X1 st1
  have hnew : (T.pushCell { cls := gaA Γ (61 + i), slots := vals.toArray, vm := .none }).heap[H.size]? = some { cls := gaA Γ (61 + i), slots := vals.toArray, vm := .none } := by rw [← hT]; exact State.heap_pushCell_size _ _
  have hold : ∀ p, p < H.size → (T.pushCell { cls := gaA Γ (61 + i), slots := vals.toArray, vm := .none }).heap[p]? = H[p]? := fun p hp => by
    rw [State.heap_pushCell_of_lt _ _ (by rw [hT]; exact hp), hT]
  have hsz : (T.pushCell { cls := gaA Γ (61 + i), slots := vals.toArray, vm := .none }).heap.size = H.size + 1 := by
    show (T.heap.push _).size = _
    rw [Array.size_push, hT]
  have hW1 : Wd Γ (hNew σ (61 + i) 0 n fI fR) (T.pushCell { cls := gaA Γ (61 + i), slots := vals.toArray, vm := .none }).heap := by
    refine hW.mk hsz hold (fun _ => ?_)
    have ek : hK (hNew σ (61 + i) 0 n fI fR) H.size = 61 + i := by rw [hK_new, hW.1, up1_s]
    refine Or.inr (Or.inr (Or.inl ⟨by rw [ek]; omega, by rw [ek]; omega, Nat.le_trans hG.base hF.2.1, ?_⟩))
    rw [ek]
    refine ⟨_, hnew, rfl, rfl, ?_⟩
    rw [hR_new, hI_new, hW.1, up1_s, up1_s, hv]
  obtain ⟨t, a1, bb⟩ := kk (hSz σ) _ y σ' h2 hr _ locs (cells + 1) (slots + n) ls hW1 ⟨fun q hq => by rw [hold q (Nat.lt_of_lt_of_le hq (Nat.le_trans hG.base hF.2.1))]; exact hF.1 q hq, by rw [hsz]; exact Nat.le_succ_of_le hF.2.1, hF.2.2⟩ (by rw [e1, e2]; omega) hl _ rfl (by
    have e : vals.toArray.size = n := by simpa using hn
    rw [e] at X1
    exact X1)
  refine ⟨t, st1 t ?_, bb⟩
  rw [hT, ← hW.1]
  exact a1
end LZ2
section LZ3
variable {Γ : Ga} {G : Ge} {own : String} {cc : ByteArray} {F L : Nat} {rt0 : Option FieldType} {β : Type} {QB : β → Hp → State → Prop} {mm : Mr β} {σ : Hp} {pc : Nat} {lv : List (Nat × Value)} {st : List Value}
theorem Gok.fld (hΓ : Gok Γ) {i : Nat} {x : MethodName} {pc index nl : Nat} {σL : Lambda.Shape} {cn : String} {fwd : ByteArray} {ret : Option FieldType} (hi : lamTab[i]? = some (x, pc, index, σL, cn)) (hx : x.cls = cn) (hz : lzOk σL cn fwd nl ret) (hO : Cond.instantiable "java/lang/Object" 0 ∈ lw_all) {fi c nt j : Nat} {nm ds : String}
    (hf : (lzD σL cn).constantPool[fi]? = some (.fieldref c nt) ∧ (lzD σL cn).constantPool.nameAndType? nt = some (nm, ds) ∧ (lzL σL cn).1.findIdx? (·.name == nm) = some j ∧ ((lzL σL cn).1[j]?).map (fun f => (f.isStatic, f.slot)) = some (false, j)) {U : State} (hU : Γ.1.1.WarmedH U.vm) :
    ∃ fld : Field, U.vm.fieldReady (gaA Γ (61 + i)) fi (gaA Γ (61 + i)) fld ∧ fld.isStatic = false ∧ fld.slot = j := by
  obtain ⟨k, -, -, -, -, -, -, -, -, hk, -, -, -, -, -, -, -, -, -, -, -, -, -, -, hres, hfields, -⟩ := hΓ.lamF hi hx hz hO hU
  obtain ⟨g0, hg0, hp0⟩ := Option.map_eq_some_iff.mp hf.2.2.2
  simp only [Prod.mk.injEq] at hp0
  exact ⟨g0, ⟨k, j, k, hk, hres fi _ (Lambda.resolvedOf_field hf.1 hf.2.1 hf.2.2.1), hk, hfields j _ hg0⟩, hp0.1, hp0.2⟩
theorem Gok.cls (hΓ : Gok Γ) {i : Nat} {x : MethodName} {pc index nl : Nat} {σL : Lambda.Shape} {cn : String} {fwd : ByteArray} {ret : Option FieldType} (hi : lamTab[i]? = some (x, pc, index, σL, cn)) (hx : x.cls = cn) (hz : lzOk σL cn fwd nl ret) (hO : Cond.instantiable "java/lang/Object" 0 ∈ lw_all) {ci u : Nat} {C : String} {cT : ClassId}
    (hf : (lzD σL cn).constantPool[ci]? = some (.class_ u) ∧ (lzD σL cn).constantPool.string? u = some C ∧ ci ≠ (lzD σL cn).thisClass) {U : State} (hU : Γ.1.1.WarmedH U.vm) (hc : U.vm.findClass C = some cT) : U.vm.classReady (gaA Γ (61 + i)) ci cT := by
  obtain ⟨k, -, -, -, -, -, -, -, -, hk, -, -, -, -, -, -, -, -, -, -, -, -, -, -, hres, -⟩ := hΓ.lamF hi hx hz hO hU
  exact ⟨k, hk, hres ci _ (Lambda.resolvedOf_class hf.1 hf.2.2 hf.2.1 hc)⟩
theorem Gok.tS (hΓ : Gok Γ) {i : Nat} {x : MethodName} {pc index nl : Nat} {σL : Lambda.Shape} {cn : String} {fwd : ByteArray} {ret : Option FieldType} (hi : lamTab[i]? = some (x, pc, index, σL, cn)) (hx : x.cls = cn) (hz : lzOk σL cn fwd nl ret) (hO : Cond.instantiable "java/lang/Object" 0 ∈ lw_all) {mi c nt u n : Nat} {y : MethodName} {b : ByteArray} {maxL : Nat} {ry : Option FieldType}
    (hm : (lzD σL cn).constantPool[mi]? = some (.methodref c nt) ∧ (lzD σL cn).constantPool.className? c = some y.cls ∧ (lzD σL cn).constantPool.nameAndType? nt = some (y.name, y.desc)) (hc : (lzD σL cn).constantPool[c]? = some (.class_ u) ∧ (lzD σL cn).constantPool.string? u = some y.cls ∧ c ≠ (lzD σL cn).thisClass)
    (hy : σL.implClass = y.cls ∧ σL.implName = y.name ∧ σL.implDesc.toString = y.desc) (hyn : y.cls ≠ "java/lang/invoke/MethodHandle" ∧ y.cls ≠ "java/lang/invoke/VarHandle") (hcode : Cond.code y b maxL ry ∈ lw_all) (hst : Cond.static y ∈ lw_all) (hini : Cond.initialized y.cls ∈ lw_all) (hp : (parseMethodDescriptor y.desc).map (fun d => d.parameters.length) = some n) {e : Env} {s' : State} (hs : Γ.1.1.WarmedH s'.vm) :
    lz_tS e s' (gaA Γ (61 + i)) mi y n := by
  intro U hW
  have hU : Γ.1.1.WarmedH U.vm := State.WarmedH.trans hs hW
  obtain ⟨k, tk, file, methk, ck, toy, t, iface, found, hk, hkn, hfile, hpool, -, -, -, -, -, -, -, htoy, htk, hitf, hlook, hres, -⟩ := hΓ.lamF hi hx hz hO hU
  rw [hy.1] at htoy
  rw [hy.2.1, hy.2.2] at hlook
  have hready : U.vm.methodReady (gaA Γ (61 + i)) mi t := ⟨k, hk, hres mi _ (Lambda.resolvedOf_method hm.1 hm.2.1 htoy htk hm.2.2 hlook)⟩
  have hclsR : U.vm.classReady (gaA Γ (61 + i)) c toy := ⟨k, hk, hres c _ (Lambda.resolvedOf_class hc.1 hc.2.2 hc.2.1 htoy)⟩
  have wc := hΓ.word hcode (a := #[]) hU
  obtain ⟨mB, hnB⟩ := Cond.code_named wc
  obtain ⟨methB, cB, hmB, -, -, -, -, -, -, hsigB⟩ := Cond.code_spec hnB wc
  have hstaticB : methB.isStatic = true := Cond.static_spec hnB hmB (hΓ.word hst (a := #[]) hU)
  have hfT : U.vm.findClass y.cls = some mB.cls := findClass_of_methodNamed hnB
  cases htoy.symm.trans hfT
  have hinitK : tk.init = .initialized := Cond.initialized_spec hfT htk (hΓ.word hini (a := #[]) hU)
  obtain ⟨kT', hkT', hnameT⟩ := className_of_methodNamed hnB
  cases htk.symm.trans hkT'
  have htB : t = mB := by
    have h1 : U.methodFound? y.cls y.name y.desc = some mB := State.methodFound?_of_named hnB hyn
    simp only [State.methodFound?, hfT, htk, Option.bind_eq_bind, Option.bind_some] at h1
    rw [hlook] at h1
    exact Option.some.inj h1
  subst htB
  have hsp : ∀ z : Method, signaturePolymorphic tk z = false := fun z => by simp [signaturePolymorphic, hnameT, hyn.1, hyn.2]
  obtain ⟨b', hmem⟩ := memberRef_ask' (e := e) (vm := U.vm) (d := gaA Γ (61 + i)) (index := mi) hk hfile (Or.inl (by rw [hpool]; exact hm.1)) (by rw [hpool]; exact hm.2.2)
  refine ⟨⟨c, _, _, b', t.cls, tk, hmem, hclsR, htk, by simp [hsp]⟩, t, tk, methB, hready, htk, hmB, hsp _, hstaticB, hinitK, hnB, ?_⟩
  rw [hsigB] at hp
  exact (Option.some.inj hp).symm
theorem Gok.tV (hΓ : Gok Γ) {i : Nat} {x : MethodName} {pc index nl : Nat} {σL : Lambda.Shape} {cn : String} {fwd : ByteArray} {ret : Option FieldType} (hi : lamTab[i]? = some (x, pc, index, σL, cn)) (hx : x.cls = cn) (hz : lzOk σL cn fwd nl ret) (hO : Cond.instantiable "java/lang/Object" 0 ∈ lw_all) {mi c nt u n : Nat} {y : MethodName} {b : ByteArray} {maxL : Nat} {ry : Option FieldType} {cB : ClassId}
    (hm : (lzD σL cn).constantPool[mi]? = some (.methodref c nt) ∧ (lzD σL cn).constantPool.className? c = some y.cls ∧ (lzD σL cn).constantPool.nameAndType? nt = some (y.name, y.desc)) (hc : (lzD σL cn).constantPool[c]? = some (.class_ u) ∧ (lzD σL cn).constantPool.string? u = some y.cls ∧ c ≠ (lzD σL cn).thisClass)
    (hy : σL.implClass = y.cls ∧ σL.implName = y.name ∧ σL.implDesc.toString = y.desc ∧ σL.implItf = false) (hyn : y.cls ≠ "java/lang/invoke/MethodHandle" ∧ y.cls ≠ "java/lang/invoke/VarHandle") (hcode : Cond.code y b maxL ry ∈ lw_all) (hin : Cond.instanceMethod y ∈ lw_all) (hsel : Cond.selects y.cls y y ∈ lw_all) (hp : (parseMethodDescriptor y.desc).map (fun d => d.parameters.length) = some n) {s' : State} (hs : Γ.1.1.WarmedH s'.vm) (hcB : s'.vm.findClass y.cls = some cB) :
    lz_tV s' (gaA Γ (61 + i)) mi y n cB := by
  intro U hW
  have hU : Γ.1.1.WarmedH U.vm := State.WarmedH.trans hs hW
  obtain ⟨k, tk, file, methk, ck, toy, t, iface, found, hk, hkn, hfile, hpool, -, -, -, -, -, -, -, htoy, htk, hitf, hlook, hres, -⟩ := hΓ.lamF hi hx hz hO hU
  rw [hy.1] at htoy
  rw [hy.2.1, hy.2.2.1] at hlook
  rw [hy.2.2.2] at hitf
  have hready : U.vm.methodReady (gaA Γ (61 + i)) mi t := ⟨k, hk, hres mi _ (Lambda.resolvedOf_method hm.1 hm.2.1 htoy htk hm.2.2 hlook)⟩
  have hclsR : U.vm.classReady (gaA Γ (61 + i)) c toy := ⟨k, hk, hres c _ (Lambda.resolvedOf_class hc.1 hc.2.2 hc.2.1 htoy)⟩
  obtain ⟨mB, methB, hnB, hmB, hstB, habB⟩ := Cond.instanceMethod_spec (hΓ.word hin (a := #[]) hU)
  obtain ⟨methB', cB', hmB', -, -, -, -, -, -, hsigB⟩ := Cond.code_spec hnB (hΓ.word hcode (a := #[]) hU)
  cases hmB.symm.trans hmB'
  have hfT : U.vm.findClass y.cls = some mB.cls := findClass_of_methodNamed hnB
  cases htoy.symm.trans hfT
  obtain ⟨kT', hkT', hnameT⟩ := className_of_methodNamed hnB
  cases htk.symm.trans hkT'
  have htB : t = mB := by
    have h1 : U.methodFound? y.cls y.name y.desc = some mB := State.methodFound?_of_named hnB hyn
    simp only [State.methodFound?, hfT, htk, Option.bind_eq_bind, Option.bind_some] at h1
    rw [hlook] at h1
    exact Option.some.inj h1
  subst htB
  have hsp : ∀ z : Method, signaturePolymorphic tk z = false := fun z => by simp [signaturePolymorphic, hnameT, hyn.1, hyn.2]
  obtain ⟨c2, r2, m2, q1, q2, q3, q4, kP, hkP, hkPi⟩ := Cond.selects_spec (hΓ.word hsel (a := #[]) hU)
  have hcB' : U.vm.findClass y.cls = some cB := by rw [hW.alike.findClass]; exact hcB
  cases q1.symm.trans hcB'
  cases (State.methodFound?_of_named hnB hyn).symm.trans q2
  cases hnB.symm.trans q3
  refine ⟨⟨k, file, c, nt, t.cls, tk, hk, hfile, by rw [hpool]; exact hm.1, hclsR, htk, hitf⟩, t, tk, methB, hready, htk, hmB, hsp _, hstB, hnB, ?_, q4, habB, hitf⟩
  rw [hsigB] at hp
  exact (Option.some.inj hp).symm
/-- a call whose callee is reached in five bytes -/
theorem VM.call5 (hG : Gk Γ G own cc F L rt0) {α : Type} {f : Mr α} {k : α → Mr β} {ev : α → Option Value} {args : Array Value} {rest : List Value}
    (hrun : ∀ (x : α) (σ1 : Hp), run f σ = some (x, σ1) → ∀ (H : Heap) (locs : List Loc) (cells slots : Nat) (ls : Array Slot), Wd Γ σ H → Fr Γ G H locs → ls.size = geN G → cells + (hSz σ1 - hSz σ) ≤ (geR G).cells ∧ slots + (hSl σ1 - hSl σ) ≤ (geR G).slots →
      va_Run5 G.1.1 Γ.1.2 G.1.2.1 G.1.2.2 G.2.1.1 G.2.1.2.1 G.2.1.2.2.1 G.2.1.2.2.2 G.2.2.1.1 G.2.2.1.2 H locs cells slots (hSz σ1 - hSz σ) (hSl σ1 - hSl σ) (F0 (geM G) pc ls st) rest (QR Γ ev x σ1 args) (fun q => gaB Γ ≤ q))
    (kk : ∀ x σ1, VM Γ G QB (k x) σ1 (pc + 5) lv ((ev x).toList ++ rest)) : VM Γ G QB (bd f k) σ pc lv st := by
  intro y σ' hm hr H locs cells slots ls hW hF hcs hl
  obtain ⟨x, σ1, h1, h2⟩ := run_bd_inv hm
  have g1 := run_le h1
  have g2 := run_le h2
  have a1 := g1.1
  have a2 := g1.2.1
  have b1 := g2.1
  have b2 := g2.2.1
  intro T hT X
  obtain ⟨v, st₀, t, T', L', e0, X', hL', e1, e2, ⟨hv, hW1, hold, hsz⟩, hgo⟩ := hrun x σ1 h1 H locs cells slots ls hW hF hl.1 (by omega) T hT X
  cases hv
  rw [e0] at hold hsz
  have hW1 : Wd Γ σ1 T'.heap := by rw [e1]; exact hW1
  obtain ⟨t2, c1, c2⟩ := kk x σ1 y σ' h2 hr T'.heap (locs ++ L') _ _ ls hW1 ⟨fun q hq => by rw [e1, hold q hq]; exact hF.1 q hq, Nat.le_trans hF.2.1 (by rw [e1]; exact hsz), fun q hq => by
    rcases List.mem_append.mp hq with h | h
    · exact hF.2.2 q h
    · exact hL' q h⟩ (by omega) hl T' rfl X'
  exact ⟨t2, hgo t2 c1, c2⟩
/-- what a forwarder's body does: from its frame on -/
def lzBody (Γ : Ga) (σ : Hp) (q : Nat) (As : List Value) (i nl : Nat) (fwd : ByteArray) (rty : FieldType) (FF LL : Nat) (f : Mr Int32) : Prop := ∀ (z : Int32) (σ1 : Hp), run f σ = some (z, σ1) → ∀ (p : Program) (e : Env) (R' : Room) (H : Heap) (s' : State) (below' : List Frame) (methk : Method) (ck : Code), p.tables.exec = Jvm.exec → Wd Γ σ H → s'.heap = H → Cx Γ s' →
  ck.code = fwd → ck.maxLocals = nl → methk.sig.returnType = some rty → methk.locks = false → R' = { frames := FF, cells := hSz σ1 - hSz σ, slots := hSl σ1 - hSl σ, locals := LL } →
  W p Γ.1.2 e R' s' ⟨gaA Γ (61 + i), 1⟩ (Value.ref q :: As).toArray below' methk ck H [] 0 0 (MQ below' (QR Γ evI z σ1) (Value.ref q :: As).toArray s' (hSz σ1 - hSz σ) (hSl σ1 - hSl σ) (fun q => gaB Γ ≤ q)) (entryFrame ⟨gaA Γ (61 + i), 1⟩ (Value.ref q :: As).toArray nl)
theorem v_lam (hG : Gk Γ G own cc F L rt0) {i : Nat} {x : MethodName} {pc0 index0 nl FF LL index count q n : Nat} {σL : Lambda.Shape} {cn : String} {fwd : ByteArray} {rty : FieldType} {X : MethodName} {As rest : List Value} {f : Mr Int32} {k : Int32 → Mr β} (hi : lamTab[i]? = some (x, pc0, index0, σL, cn)) (hx : x.cls = cn) (hz : lzOk σL cn fwd nl (some rty)) (hO : Cond.instantiable "java/lang/Object" 0 ∈ lw_all)
    (hcnp : plainName (cn ++ "$$Lambda") = true) (hlink : Cond.methodLink own index X ∈ lw_all) (hdecl : Cond.declares X ∈ lw_tbl) (hface : Cond.interfaceMethod X.cls X.cls X.name X.desc ∈ lw_tbl) (hX : X.cls = σL.iface ∧ X.name = σL.name ∧ X.desc = σL.sam.toString) (hXn : X.cls ≠ "java/lang/invoke/MethodHandle" ∧ X.cls ≠ "java/lang/invoke/VarHandle") (hXp : (parseMethodDescriptor X.desc).map (fun d => d.parameters.length) = some n) (hn : As.length = n)
    (hq : hK σ q % 100 = 61 + i) (hb : i < 18) (hbody : lzBody Γ σ q As i nl fwd rty FF LL f) (hst : st = As.reverse ++ .ref q :: rest) (hrest : (rest.map fun v => v.category).sum ≤ 8) (hR : FF + 1 ≤ F ∧ 8 + (nl + 11) + LL ≤ L) (hd : decode cc pc = .ok (.invokeinterface index count, 5))
    (kk : ∀ z σ1, VM Γ G QB (k z) σ1 (pc + 5) lv (.int z :: rest)) : VM Γ G QB (bd f k) σ pc lv st := by
  refine VM.call5 hG (ev := evI) (rest := rest) (args := (Value.ref q :: As).toArray) (fun z σ1 h1 H locs cells slots ls hW hF hls hf => ?_) kk
  have hU := hG.cx.1
  obtain ⟨kK, tk, file, methk, ck, toy, t, iface, found, hk, hkn, hfile, hpool, hmk, hck, hcc, hnl, hlk, hfl, hret, -, -, -, -, -, -, -, -, hifc, hfd, hsel⟩ := hG.ok.lamF hi hx hz hO hU
  obtain ⟨one, hat, -⟩ := hG.ok.lam hi
  obtain ⟨-, -, -, -, -, -, -, -, -, -, -, -, -, hcan, -⟩ := State.lambdaAt?_spec hat
  have hcan' : (geS G).lambdaCallable σL (gaA Γ (61 + i)) = true := by
    have hA := hU.alike
    simp only [State.lambdaCallable, hA.findClass, hA.assignable, hA.superclasses, hA.declaredIn] at hcan ⊢
    exact hcan
  obtain ⟨i2, hi2, hasg, hway⟩ := State.lambdaCallable_spec hcan'
  have wdecl : (Cond.declares X).before #[] (geS G) = true := hG.nw hdecl rfl fun hW hZ => va_Nw.warmD hW hZ
  have wface : (Cond.interfaceMethod X.cls X.cls X.name X.desc).before #[] (geS G) = true := by
    obtain ⟨a0, htb⟩ := hG.ok.1
    have d0 : va_Nw (.declares X) Γ.1.1 := va_Nw.of rfl (htb _ hdecl)
    have f0 : va_Nw (.interfaceMethod X.cls X.cls X.name X.desc) Γ.1.1 := va_Nw.of rfl (htb _ hface)
    obtain ⟨r9, meth9, hn9, -⟩ := Cond.declares_spec d0
    exact va_tabs rfl (rfl : (Γ.1.1.setVm (geS G).vm).vm = (geS G).vm) (by rw [Cond.interfaceMethod_setVm hU.alike (r := r9) hn9 hXn]; exact f0)
  obtain ⟨r0, r, hn0, hrm, hstR, hsigR⟩ := Cond.declares_spec wdecl
  obtain ⟨cL, kL, r1, hcL, hkL, hiL, hfoundL, hn1⟩ := Cond.interfaceMethod_spec wface
  cases hn0.symm.trans hn1
  have hr0cls : r0.cls = cL := Option.some.inj ((findClass_of_methodNamed hn0).symm.trans hcL)
  subst hr0cls
  obtain ⟨hnameR, hdescR⟩ := name_of_methodNamed hn0 hrm
  have hcL' : (geS G).vm.findClass σL.iface = some r0.cls := by rw [← hX.1]; exact hcL
  cases hcL'.symm.trans hi2
  cases hcL'.symm.trans hifc
  have hfr : found = r0 := by
    simp only [State.methodFound?, hcL, hkL, hiL, Option.bind_eq_bind, Option.bind_some] at hfoundL
    rw [hX.2.1, hX.2.2, hfd] at hfoundL
    exact Option.some.inj hfoundL
  subst hfr
  obtain ⟨cell, hc1, hc2, hc3, -⟩ := hW.lam hq (Nat.le_add_right _ _)
  have hlen : As.length = r.sig.parameters.length := by
    rw [hsigR] at hXp
    exact hn.trans (Option.some.inj hXp).symm
  refine lz_run5 (x := X) (R' := { frames := FF, cells := hSz σ1 - hSz σ, slots := hSl σ1 - hSl σ, locals := LL }) hG.exec hG.bytes hG.own (hG.hts _ hlink) hXn hn0 hrm hstR hkL hiL hlen hc1 hc3 (by rw [hc2]; exact hk) (by rw [hc2]; exact hasg) (m' := ⟨gaA Γ (61 + i), 1⟩) (by rw [hc2]; exact hsel) hmk (by rw [hc2, hnameR, hdescR, hX.2.1, hX.2.2]; exact hway) hfl hck hlk (fun U hU2 => ?_) rfl (by show ls.size = _; rw [hls]; exact hG.maxL.symm) hst (lv_room hrest) hd ?_ ?_ rfl rfl hf (fun s' below' hh hw => ?_)
  · refine State.plainMethod.of_name (fun k' hk' => ?_)
    obtain ⟨ku, hku, he⟩ := hU2.alike.2.2 _ _ hk
    cases hku.symm.trans hk'
    rw [he]
    show plainName kK.name = true
    rw [hkn]; exact hcnp
  · have e := hG.frames
    have h := hR.1
    rw [← e] at h
    exact h
  · have e := hG.locals
    have h := hR.2
    rw [← e] at h
    rw [hnl]
    exact h
  · rw [hnl]
    exact hbody z σ1 h1 _ _ _ _ _ _ _ _ hG.exec hW hh (hG.cx.warm hw (fun q hq => by rw [hh]; exact hF.1 q hq)) hcc hnl hret hlk rfl
end LZ3
section LZ4
variable {p : Program} {l : Launch} {e : Env} {R : Room} {s : State} {m : MethodId} {args : Array Value} {below : List Frame} {meth : Method} {c : Code} {H : Heap} {locs : List Loc} {cells slots : Nat} {Q : State → Prop}
variable {cc : ByteArray} {ls : Array Slot}
theorem lz_caps (hexec : p.tables.exec = Jvm.exec) (hb : c.code = cc) {q : Nat} {cell : Cell} {V : List Value} {fi : Nat → Nat} (hd : ∀ j, j < V.length → decode cc (4 * j) = .ok (.aload_n 0, 1) ∧ decode cc (4 * j + 1) = .ok (.getfield (fi j), 3))
    (hf : ∀ j, j < V.length → ∀ U : State, s.WarmedH U.vm → ∃ fld : Field, U.vm.fieldReady m.cls (fi j) m.cls fld ∧ fld.isStatic = false ∧ fld.slot = j) (hcell : H[q]? = some cell) (hk : cell.vm = .none) (hsl : cell.slots = V.toArray) (hl : ls[0]? = some (.val (.ref q)))
    (k : W p l e R s m args below meth c H locs cells slots Q (F0 m (4 * V.length) ls V.reverse)) : W p l e R s m args below meth c H locs cells slots Q (F0 m 0 ls []) := by
  have key : ∀ d j, j + d = V.length → W p l e R s m args below meth c H locs cells slots Q (F0 m (4 * j) ls (V.take j).reverse) := by
    intro d
    induction d with
    | zero =>
      intro j hj
      have e : j = V.length := hj
      subst e
      rw [List.take_length]
      exact k
    | succ d ih =>
      intro j hj
      have hlt : j < V.length := by omega
      obtain ⟨d0, d1⟩ := hd j hlt
      refine lv_aload_n hexec hb d0 rfl hl ?_
      refine lz_get (sl := j) (v := V[j]) hexec hb (hf j hlt) hcell (by rw [hk]; intro h; cases h) (by rw [hsl]; simp [hlt]) d1 ?_
      have h := ih (j + 1) (by omega)
      have e1 : 4 * (j + 1) = 4 * j + 1 + 3 := by omega
      have e2 : (V.take (j + 1)).reverse = V[j] :: (V.take j).reverse := by
        rw [List.take_succ_eq_append_getElem hlt, List.reverse_append]; rfl
      rw [e1, e2] at h
      exact h
  exact key V.length 0 (Nat.zero_add _)
end LZ4
section LZ5
variable {Γ : Ga} {σ : Hp}
theorem rz_inv {t : Nat} {z z' : Int32} {a b : Hp} (h : run (rz t z') a = some (z, b)) : z = z' ∧ b = a ∧ nrk t z' = true := by
  unfold rz at h
  rw [run_rd] at h
  by_cases hn : nrk t z' = true
  · rw [if_pos hn] at h; cases h; exact ⟨rfl, rfl, hn⟩
  · rw [if_neg hn] at h; cases h
theorem lv_entry2 {m : MethodId} {q : Nat} {r : Option Nat} : ∃ ls : Array Slot, lv_has ls 2 [(0, .ref q), (1, va_rf r)] ∧ entryFrame m (Value.ref q :: [va_rf r]).toArray 2 = F0 m 0 ls [] := by
  refine ⟨_, ?_, lg_entry_eq m _ 2⟩
  have h := lv_entry [.ref q, va_rf r] (n := 2) (lsn_1 rfl (lsn_rf lsn_0))
  rwa [show lv_args 0 [.ref q, va_rf r] = [(0, .ref q), (1, va_rf r)] from by cases r <;> rfl] at h
theorem lv_entry1 {m : MethodId} {q : Nat} : ∃ ls : Array Slot, lv_has ls 1 [(0, .ref q)] ∧ entryFrame m (Value.ref q :: []).toArray 1 = F0 m 0 ls [] := ⟨_, lv_entry [.ref q] (n := 1) (lsn_1 rfl lsn_0), lg_entry_eq m _ 1⟩
theorem va_aload1 {p : Program} {l : Launch} {e : Env} {R : Room} {s : State} {m : MethodId} {args : Array Value} {below : List Frame} {meth : Method} {c : Code} {H : Heap} {locs : List Loc} {cells slots : Nat} {Q : State → Prop} {cc : ByteArray} {ls : Array Slot} {pc : Nat} {rest : List Value} {r : Option Nat}
    (hexec : p.tables.exec = Jvm.exec) (hb : c.code = cc) (hd : decode cc pc = .ok (.aload_n 1, 1)) (hl : ls[1]? = some (.val (va_rf r))) (k : W p l e R s m args below meth c H locs cells slots Q (F0 m (pc + 1) ls (va_rf r :: rest))) : W p l e R s m args below meth c H locs cells slots Q (F0 m pc ls rest) := by
  cases r with
  | none => exact lv_aload_nN hexec hb hd rfl hl k
  | some q => exact lv_aload_n hexec hb hd rfl hl k
/-- the cast of a forwarder's argument -/
theorem lz_arg (hΓ : Gok Γ) {H : Heap} {kc : Nat} {C : String} {T : u_T} {N : Nat} {r : Option Nat} {s' : State} (hc : vwAll[kc - 1]? = some (C, T, N)) (h0 : 0 < kc ∧ kc < 40) (hW : Wd Γ σ H) (hCx : Cx Γ s') (h : (match r with | none => some () | some q => if ([kc] : List Nat).contains (hK σ q % 100) then some () else none) = some ()) :
    va_rf r = .null ∨ ∃ q cell, va_rf r = .ref q ∧ H[q]? = some cell ∧ (∀ k, cell.vm ≠ .statics k) ∧ ∀ U : State, s'.WarmedH U.vm → ∃ ks kt, U.vm.classes[cell.cls]? = some ks ∧ U.vm.classes[(gaD Γ).1 (kc - 1)]? = some kt ∧ U.vm.assignable cell.cls ((gaD Γ).1 (kc - 1)) = true := by
  cases r with
  | none => exact Or.inl rfl
  | some q =>
    have h : (if ([kc] : List Nat).contains (hK σ q % 100) = true then some () else none) = some () := h
    split at h
    · rename_i hk
      have hk : hK σ q % 100 = kc := by simpa using hk
      obtain ⟨r0, cell, q0, q1, q2, q3, q4, -⟩ := hW.obj hk h0.1 h0.2
      refine Or.inr ⟨q, cell, rfl, q1, (fun k hk9 => by rw [hk9] at q4; cases q4), (fun U hU => ?_)⟩
      have hK2 := va_K.moved (State.WarmedH.trans hCx.1 hU).alike hΓ.2.1
      have hf := (hK2.1 _ _ hc).2.1
      obtain ⟨ks, hks, -⟩ := Vm.findClass_spec hf
      rw [q2]
      exact ⟨ks, ks, hks, hks, va_asg _ _⟩
    · cases h
theorem Pc_any {Γ : Ga} {σ : Hp} {H : Heap} {s' : State} {av : List Value} (hW : Wd Γ σ H) (hH : s'.heap = H) (hCx : Cx Γ s') (U : State) (hU : U.heap = H) (hw : s'.WarmedH U.vm) : va_Pc av (fun U => Wd Γ σ U.heap ∧ Cx Γ U) av.toArray U :=
  ⟨rfl, by rw [hU]; exact hW, hCx.warm hw (fun q _ => by rw [hU, hH])⟩
/-- behind the target's return -/
theorem lz_end {p : Program} {e : Env} {R : Room} {s : State} {m : MethodId} {args : Array Value} {below : List Frame} {meth : Method} {c : Code} {H : Heap} {cc : ByteArray} {ls : Array Slot} {pc : Nat} {st0 : List Value} {mc ms t : Nat} {z : Int32} {σ1 : Hp} {rty : FieldType} {av : Array Value}
    (hexec : p.tables.exec = Jvm.exec) (hb : c.code = cc) (hret : meth.sig.returnType = some rty) (hlk : meth.locks = false) (ht : tyN t = rty) (hn : nrk t z = true) (hd : decode cc (pc + 3) = .ok (.ireturn, 1)) (hH : s.heap = H)
    (hr : va_Run p Γ.1.2 e R s m args below meth c H [] 0 0 mc ms (F0 m pc ls st0) [] (QR Γ evI z σ1 av) (fun q => gaB Γ ≤ q)) :
    W p Γ.1.2 e R s m args below meth c H [] 0 0 (MQ below (QR Γ evI z σ1) args s mc ms (fun q => gaB Γ ≤ q)) (F0 m pc ls st0) := by
  intro T hT X
  obtain ⟨v, st₀, t', T', L', e0, X', hL', e1, e2, ⟨hv, hW1, hold, hsz⟩, hgo⟩ := hr T hT X
  cases hv
  rw [e0] at hold hsz
  rw [Nat.zero_add, Nat.zero_add, List.nil_append] at X'
  have hz : narrow rty (.int z) = .int z := by rw [← ht]; exact nrk_ok hn
  obtain ⟨t2, c1, c2⟩ := W.zret (Qc := QR Γ evI z σ1) (free := fun q => gaB Γ ≤ q) hexec hb hret hz (fun t ht hw => ⟨rfl, by rw [ht, e1]; exact hW1, fun q hq => by rw [ht, e1, hH]; exact hold q hq, by rw [ht, e1, hH]; exact hsz⟩) hL' (pc := pc + 3) (ls := ls) hd hlk T' rfl X'
  exact ⟨t2, hgo t2 c1, c2⟩
theorem lz_bodyS (hΓ : Gok Γ) {i q mi ci kc n b0 : Nat} {fwd b : ByteArray} {rty : FieldType} {V : List Value} {x1 : Option Nat} {fi : Nat → Nat} {C : String} {T : u_T} {N : Nat} {y : MethodName} {ry : Option FieldType} {F' L' FF LL t nlY : Nat} {g : Mr Int32}
    (hq : hK σ q % 100 = 61 + i) (hV : ((lamT (61 + i)).zipIdx.map fun p => if p.1 = true then va_rf (hR σ q p.2) else .int (hI σ q p.2)) = V) (hn : V.length = n) (hb0 : 4 * n = b0)
    (hd : ∀ j, j < n → decode fwd (4 * j) = .ok (.aload_n 0, 1) ∧ decode fwd (4 * j + 1) = .ok (.getfield (fi j), 3)) (hfl : ∀ j, j < n → ∀ U : State, Γ.1.1.WarmedH U.vm → ∃ fld : Field, U.vm.fieldReady (gaA Γ (61 + i)) (fi j) (gaA Γ (61 + i)) fld ∧ fld.isStatic = false ∧ fld.slot = j)
    (d1 : decode fwd b0 = .ok (.aload_n 1, 1)) (d2 : decode fwd (b0 + 1) = .ok (.checkcast ci, 3)) (hcl : ∀ (U : State) cT, Γ.1.1.WarmedH U.vm → U.vm.findClass C = some cT → U.vm.classReady (gaA Γ (61 + i)) ci cT) (hc : vwAll[kc - 1]? = some (C, T, N)) (h0 : 0 < kc ∧ kc < 40)
    (d3 : decode fwd (b0 + 4) = .ok (.invokestatic mi, 3)) (hT : ∀ (e : Env) (s' : State), Γ.1.1.WarmedH s'.vm → lz_tS e s' (gaA Γ (61 + i)) mi y (n + 1)) (d4 : decode fwd (b0 + 7) = .ok (.ireturn, 1))
    (hC : Ct Γ y (ws_ y b nlY ry) F' L' evI g (V ++ [va_rf x1])) (hcode : Cond.code y b nlY ry ∈ lw_all) (hini : Cond.initialized y.cls ∈ lw_all) (hR : F' + 1 ≤ FF ∧ nlY + 11 + L' ≤ LL) (ht : tyN t = rty) :
    lzBody Γ σ q [va_rf x1] i 2 fwd rty FF LL (bd (ca [kc] x1) fun _ => bd g fun z => rz t z) := by
  intro z σ1 hm p e R' H s' below' methk ck hex hW hH hCx hcc hml hret hlk hR'
  obtain ⟨⟨⟩, h1, h2⟩ := run_rd_inv hm
  obtain ⟨z', σ2, h3, h4⟩ := run_bd_inv h2
  obtain ⟨rfl, rfl, hnr⟩ := rz_inv h4
  obtain ⟨ls, hls, he⟩ := lv_entry2 (m := ⟨gaA Γ (61 + i), 1⟩) (q := q) (r := x1)
  rw [he]
  obtain ⟨cell, hc1, hc2, hc3, hc4⟩ := hW.lam hq (Nat.le_add_right _ _)
  rw [hV] at hc4
  subst hn
  subst hb0
  subst hR'
  have hwU : ∀ U : State, s'.WarmedH U.vm → Γ.1.1.WarmedH U.vm := fun U h => State.WarmedH.trans hCx.1 h
  refine lz_caps hex hcc hd (fun j hj U hU => hfl j hj U (hwU U hU)) hc1 hc3 hc4 (lv_at hls 0 rfl) ?_
  refine va_aload1 hex hcc d1 (lv_at hls 1 rfl) ?_
  have hK2 := va_K.moved hCx.1.alike hΓ.2.1
  refine lz_cast hex hcc (fun U hU => hcl U ((gaD Γ).1 (kc - 1)) (hwU U hU) (by rw [hU.alike.findClass]; exact (hK2.1 _ _ hc).2.1)) (lz_arg hΓ hc h0 hW hCx h1) d2 ?_
  refine lz_end (av := (V ++ [va_rf x1]).toArray) hex hcc hret hlk ht hnr (pc := 4 * V.length + 1 + 3) (by exact d4) hH ?_
  refine lz_runS (y := y) (n := V.length + 1) (ws := ws_ y b nlY ry) (rm := { frames := F', cells := hSz σ1 - hSz σ, slots := hSl σ1 - hSl σ, locals := L' }) (As := V ++ [va_rf x1]) hex hcc (hC σ z σ1 h3) rfl rfl hR.1 (by have := hR.2; show 0 + (nlY + 11) + L' ≤ LL; omega) (fun w hw a' U hU => ?_) List.mem_cons_self (fun a' U hU => hΓ.word hini (hwU U hU)) (hT e s' hCx.1) ⟨Pc_blind, fun U hU hw => Pc_any hW hH hCx U hU hw⟩ rfl (by simp) (by show ls.size = _; rw [hls.1, hml]) (by show va_rf x1 :: V.reverse = _; simp) (Nat.le_of_eq rfl) d3 ⟨by show 0 + _ ≤ hSz σ1 - hSz σ; omega, by show 0 + _ ≤ hSl σ1 - hSl σ; omega⟩
  rcases List.mem_cons.mp hw with rfl | hw
  · exact hΓ.word hcode (hwU U hU)
  · exact hΓ.word hw (hwU U hU)
theorem lz_bodyVC (hΓ : Gok Γ) {i q mi ci kc n b0 : Nat} {fwd b : ByteArray} {rty : FieldType} {V V' : List Value} {x1 r0 : Option Nat} {fi : Nat → Nat} {C Cr : String} {T Tr : u_T} {N Nr kr : Nat} {y : MethodName} {ry : Option FieldType} {F' L' FF LL t nlY : Nat} {g : Nat → Mr Int32}
    (hq : hK σ q % 100 = 61 + i) (hV : ((lamT (61 + i)).zipIdx.map fun p => if p.1 = true then va_rf (hR σ q p.2) else .int (hI σ q p.2)) = V) (hVV : V = va_rf r0 :: V') (hn : V.length = n) (hcr : vwAll[kr - 1]? = some (Cr, Tr, Nr)) (hr0 : 0 < kr ∧ kr < 40) (hb0 : 4 * n = b0)
    (hd : ∀ j, j < n → decode fwd (4 * j) = .ok (.aload_n 0, 1) ∧ decode fwd (4 * j + 1) = .ok (.getfield (fi j), 3)) (hfl : ∀ j, j < n → ∀ U : State, Γ.1.1.WarmedH U.vm → ∃ fld : Field, U.vm.fieldReady (gaA Γ (61 + i)) (fi j) (gaA Γ (61 + i)) fld ∧ fld.isStatic = false ∧ fld.slot = j)
    (d1 : decode fwd b0 = .ok (.aload_n 1, 1)) (d2 : decode fwd (b0 + 1) = .ok (.checkcast ci, 3)) (hcl : ∀ (U : State) cT, Γ.1.1.WarmedH U.vm → U.vm.findClass C = some cT → U.vm.classReady (gaA Γ (61 + i)) ci cT) (hc : vwAll[kc - 1]? = some (C, T, N)) (h0 : 0 < kc ∧ kc < 40)
    (d3 : decode fwd (b0 + 4) = .ok (.invokevirtual mi, 3)) (hT : ∀ (s' : State) (cB : ClassId), Γ.1.1.WarmedH s'.vm → s'.vm.findClass Cr = some cB → lz_tV s' (gaA Γ (61 + i)) mi y n cB) (d4 : decode fwd (b0 + 7) = .ok (.ireturn, 1))
    (hC : ∀ h, Ct Γ y (ws_ y b nlY ry) F' L' evI (g h) (.ref h :: (V' ++ [va_rf x1]))) (hcode : Cond.code y b nlY ry ∈ lw_all) (hini : Cond.initialized y.cls ∈ lw_all) (hR : F' + 1 ≤ FF ∧ nlY + 11 + L' ≤ LL) (ht : tyN t = rty) :
    lzBody Γ σ q [va_rf x1] i 2 fwd rty FF LL (bd (ca [kc] x1) fun _ => bd (rc kr r0) fun h => bd (g h) fun z => rz t z) := by
  intro z σ1 hm p e R' H s' below' methk ck hex hW hH hCx hcc hml hret hlk hR'
  obtain ⟨⟨⟩, h1, h2⟩ := run_rd_inv hm
  obtain ⟨h, h5, h6⟩ := run_rd_inv h2
  obtain ⟨z', σ2, h3, h4⟩ := run_bd_inv h6
  obtain ⟨q9, rfl, h7⟩ := Option.bind_eq_some_iff.mp h5
  split at h7 <;> cases h7
  rename_i hk9
  obtain ⟨rfl, rfl, hnr⟩ := rz_inv h4
  obtain ⟨ls, hls, he⟩ := lv_entry2 (m := ⟨gaA Γ (61 + i), 1⟩) (q := q) (r := x1)
  rw [he]
  obtain ⟨cell, hc1, hc2, hc3, hc4⟩ := hW.lam hq (Nat.le_add_right _ _)
  rw [hV] at hc4
  subst hn
  subst hb0
  subst hR'
  have hwU : ∀ U : State, s'.WarmedH U.vm → Γ.1.1.WarmedH U.vm := fun U h => State.WarmedH.trans hCx.1 h
  refine lz_caps hex hcc hd (fun j hj U hU => hfl j hj U (hwU U hU)) hc1 hc3 hc4 (lv_at hls 0 rfl) ?_
  refine va_aload1 hex hcc d1 (lv_at hls 1 rfl) ?_
  have hK2 := va_K.moved hCx.1.alike hΓ.2.1
  refine lz_cast hex hcc (fun U hU => hcl U ((gaD Γ).1 (kc - 1)) (hwU U hU) (by rw [hU.alike.findClass]; exact (hK2.1 _ _ hc).2.1)) (lz_arg hΓ hc h0 hW hCx h1) d2 ?_
  refine lz_end (av := (.ref h :: (V' ++ [va_rf x1]) : List Value).toArray) hex hcc hret hlk ht hnr (pc := 4 * V.length + 1 + 3) (by exact d4) hH ?_
  obtain ⟨r9, cellB, q0, q1, q2, q3, q4, -⟩ := hW.obj hk9 hr0.1 hr0.2
  cases hcr.symm.trans q0
  refine lz_runV (b := h) (cellB := cellB) (y := y) (n := V.length) (ws := ws_ y b nlY ry) (rm := { frames := F', cells := hSz σ1 - hSz σ, slots := hSl σ1 - hSl σ, locals := L' }) (As := V' ++ [va_rf x1]) hex hcc (hC h σ z σ1 h3) rfl rfl hR.1 (by have := hR.2; show 0 + (nlY + 11) + L' ≤ LL; omega) (fun w hw a' U hU => ?_) List.mem_cons_self (fun a' U hU => hΓ.word hini (hwU U hU)) q1 (fun k hk => by rw [hk] at q4; cases q4) (hT s' cellB.cls hCx.1 (by rw [q2]; exact (hK2.1 _ _ hcr).2.1)) ⟨Pc_blind, fun U hU hw => Pc_any (av := .ref h :: (V' ++ [va_rf x1])) hW hH hCx U hU hw⟩ rfl (by rw [hVV]; simp) (by show ls.size = _; rw [hls.1, hml]) (by show va_rf x1 :: V.reverse = _; rw [hVV]; simp; rfl) (Nat.le_of_eq rfl) d3 ⟨by show 0 + _ ≤ hSz σ1 - hSz σ; omega, by show 0 + _ ≤ hSl σ1 - hSl σ; omega⟩
  rcases List.mem_cons.mp hw with rfl | hw
  · exact hΓ.word hcode (hwU U hU)
  · exact hΓ.word hw (hwU U hU)
theorem lz_bodyV (hΓ : Gok Γ) {i q mi n n' b0 : Nat} {fwd b : ByteArray} {rty : FieldType} {V V' : List Value} {r0 : Option Nat} {fi : Nat → Nat} {Cr : String} {Tr : u_T} {Nr kr : Nat} {y : MethodName} {ry : Option FieldType} {F' L' FF LL t nlY : Nat} {g : Nat → Mr Int32}
    (hq : hK σ q % 100 = 61 + i) (hV : ((lamT (61 + i)).zipIdx.map fun p => if p.1 = true then va_rf (hR σ q p.2) else .int (hI σ q p.2)) = V) (hVV : V = va_rf r0 :: V') (hn : V.length = n) (hn' : V.length = n' + 1) (hcr : vwAll[kr - 1]? = some (Cr, Tr, Nr)) (hr0 : 0 < kr ∧ kr < 40) (hb0 : 4 * n = b0)
    (hd : ∀ j, j < n → decode fwd (4 * j) = .ok (.aload_n 0, 1) ∧ decode fwd (4 * j + 1) = .ok (.getfield (fi j), 3)) (hfl : ∀ j, j < n → ∀ U : State, Γ.1.1.WarmedH U.vm → ∃ fld : Field, U.vm.fieldReady (gaA Γ (61 + i)) (fi j) (gaA Γ (61 + i)) fld ∧ fld.isStatic = false ∧ fld.slot = j)
    (d3 : decode fwd b0 = .ok (.invokevirtual mi, 3)) (hT : ∀ (s' : State) (cB : ClassId), Γ.1.1.WarmedH s'.vm → s'.vm.findClass Cr = some cB → lz_tV s' (gaA Γ (61 + i)) mi y n' cB) (d4 : decode fwd (b0 + 3) = .ok (.ireturn, 1))
    (hC : ∀ h, Ct Γ y (ws_ y b nlY ry) F' L' evI (g h) (.ref h :: (V'))) (hcode : Cond.code y b nlY ry ∈ lw_all) (hini : Cond.initialized y.cls ∈ lw_all) (hR : F' + 1 ≤ FF ∧ nlY + 11 + L' ≤ LL) (ht : tyN t = rty) :
    lzBody Γ σ q [] i 1 fwd rty FF LL (bd (rc kr r0) fun h => bd (g h) fun z => rz t z) := by
  intro z σ1 hm p e R' H s' below' methk ck hex hW hH hCx hcc hml hret hlk hR'
  obtain ⟨h, h5, h6⟩ := run_rd_inv hm
  obtain ⟨z', σ2, h3, h4⟩ := run_bd_inv h6
  obtain ⟨q9, rfl, h7⟩ := Option.bind_eq_some_iff.mp h5
  split at h7 <;> cases h7
  rename_i hk9
  obtain ⟨rfl, rfl, hnr⟩ := rz_inv h4
  obtain ⟨ls, hls, he⟩ := lv_entry1 (m := ⟨gaA Γ (61 + i), 1⟩) (q := q)
  rw [he]
  obtain ⟨cell, hc1, hc2, hc3, hc4⟩ := hW.lam hq (Nat.le_add_right _ _)
  rw [hV] at hc4
  subst hn
  subst hb0
  subst hR'
  have hwU : ∀ U : State, s'.WarmedH U.vm → Γ.1.1.WarmedH U.vm := fun U h => State.WarmedH.trans hCx.1 h
  refine lz_caps hex hcc hd (fun j hj U hU => hfl j hj U (hwU U hU)) hc1 hc3 hc4 (lv_at hls 0 rfl) ?_
  have hK2 := va_K.moved hCx.1.alike hΓ.2.1
  refine lz_end (av := (.ref h :: (V') : List Value).toArray) hex hcc hret hlk ht hnr (pc := 4 * V.length) (by exact d4) hH ?_
  obtain ⟨r9, cellB, q0, q1, q2, q3, q4, -⟩ := hW.obj hk9 hr0.1 hr0.2
  cases hcr.symm.trans q0
  refine lz_runV (b := h) (cellB := cellB) (y := y) (n := n') (ws := ws_ y b nlY ry) (rm := { frames := F', cells := hSz σ1 - hSz σ, slots := hSl σ1 - hSl σ, locals := L' }) (As := V') hex hcc (hC h σ z σ1 h3) rfl rfl hR.1 (by have := hR.2; show 0 + (nlY + 11) + L' ≤ LL; omega) (fun w hw a' U hU => ?_) List.mem_cons_self (fun a' U hU => hΓ.word hini (hwU U hU)) q1 (fun k hk => by rw [hk] at q4; cases q4) (hT s' cellB.cls hCx.1 (by rw [q2]; exact (hK2.1 _ _ hcr).2.1)) ⟨Pc_blind, fun U hU hw => Pc_any (av := .ref h :: (V')) hW hH hCx U hU hw⟩ rfl (by simpa [hVV] using hn') (by show ls.size = _; rw [hls.1, hml]) (by show V.reverse = _; rw [hVV]; simp; rfl) (Nat.le_of_eq rfl) d3 ⟨by show 0 + _ ≤ hSz σ1 - hSz σ; omega, by show 0 + _ ≤ hSl σ1 - hSl σ; omega⟩
  rcases List.mem_cons.mp hw with rfl | hw
  · exact hΓ.word hcode (hwU U hU)
  · exact hΓ.word hw (hwU U hU)
end LZ5
section LZ6
variable {Γ : Ga} {G : Ge} {own : String} {cc : ByteArray} {F L : Nat} {rt0 : Option FieldType} {β : Type} {QB : β → Hp → State → Prop} {mm : Mr β} {σ : Hp} {pc : Nat} {lv : List (Nat × Value)} {st : List Value}
theorem VM.eq {m1 m2 : Mr β} (h : ∀ a, run m1 a = run m2 a) (k : VM Γ G QB m2 σ pc lv st) : VM Γ G QB m1 σ pc lv st := fun x σ' hm => k x σ' (by rw [← h]; exact hm)
theorem run_assoc {α γ : Type} (m : Mr α) (f : α → Mr γ) (k : γ → Mr β) (a : Hp) : run (bd (bd m f) k) a = run (bd m fun x => bd (f x) k) a := by
  simp only [run_bd, Option.bind_assoc]
theorem VM.assoc {α γ : Type} {m : Mr α} {f : α → Mr γ} {k : γ → Mr β} (h : VM Γ G QB (bd m fun x => bd (f x) k) σ pc lv st) : VM Γ G QB (bd (bd m f) k) σ pc lv st := VM.eq (run_assoc m f k) h
/-- a look at the heap that the machine does not take -/
theorem VM.peek {α : Type} {g : Hp → Option α} {f : α → Mr β} (h : ∀ x, g σ = some x → VM Γ G QB (f x) σ pc lv st) : VM Γ G QB (bd (rd g) f) σ pc lv st := by
  intro y σ' hm
  obtain ⟨x, h1, h2⟩ := run_rd_inv hm
  exact h x h1 y σ' h2
theorem VM.bif {γ : Type} {c : Prop} [Decidable c] {a b : Mr γ} {k : γ → Mr β} (kt : c → VM Γ G QB (bd a k) σ pc lv st) (kf : ¬ c → VM Γ G QB (bd b k) σ pc lv st) : VM Γ G QB (bd (if c then a else b) k) σ pc lv st := by
  by_cases h : c
  · rw [if_pos h]; exact kt h
  · rw [if_neg h]; exact kf h
theorem VM.bno {γ : Type} {k : γ → Mr β} : VM Γ G QB (bd (no : Mr γ) k) σ pc lv st := fun _ _ hm => by cases hm
theorem gK_inv {r : Option Nat} {x : Nat × Nat} (h : (r.map fun q => (q, hK σ q % 100)) = some x) : r = some x.1 ∧ x.2 = hK σ x.1 % 100 := by
  obtain ⟨q, rfl, h2⟩ := Option.map_eq_some_iff.mp h
  cases h2
  exact ⟨rfl, rfl⟩
theorem gI_inv {k f q : Nat} {x : Int32} (hk : hK σ q % 100 = k) (h : ((some q : Option Nat).bind fun q => if hK σ q % 100 = k then some (hI σ q f) else none) = some x) : x = hI σ q f := by
  have h : (if hK σ q % 100 = k then some (hI σ q f) else none) = some x := h
  rw [if_pos hk] at h
  exact (Option.some.inj h).symm
theorem gR_inv {k f q : Nat} {x : Option Nat} (hk : hK σ q % 100 = k) (h : ((some q : Option Nat).bind fun q => if hK σ q % 100 = k then some (hR σ q f) else none) = some x) : x = hR σ q f := by
  have h : (if hK σ q % 100 = k then some (hR σ q f) else none) = some x := h
  rw [if_pos hk] at h
  exact (Option.some.inj h).symm
/-- a call through an interface of an object of a class -/
theorem v_callFi (hG : Gk Γ G own cc F L rt0) {f : Nat → Mr Int32} {k : Int32 → Mr β} {kd : Nat} {C : String} {T : u_T} {N : Nat} {x y : MethodName} {b : ByteArray} {nl F' L' idx count q : Nat} {ret : Option FieldType} (As : List Value) {rest : List Value} (n : Nat)
    (hC : Ct Γ y (ws_ y b nl ret) F' L' evI (f q) (.ref q :: As)) (hw : GoodIn lw_all (va_wsF own idx C x y (ws_ y b nl ret))) (hFw : Cond.declares x ∈ lw_tbl ∧ Cond.interfaceMethod x.cls x.cls x.name x.desc ∈ lw_tbl ∧ Cond.publicMethod y ∈ lw_tbl ∧ Cond.unhidden C x.name x.desc ∈ lw_tbl ∧ Cond.castable C x.cls ∈ lw_tbl) (hc : vwAll[kd - 1]? = some (C, T, N)) (h0 : 0 < kd ∧ kd < 40)
    (hd2 : x.cls ≠ "java/lang/invoke/MethodHandle" ∧ x.cls ≠ "java/lang/invoke/VarHandle" ∧ (parseMethodDescriptor x.desc).map (fun d => d.parameters.length) = some n) (hRm : F' + 1 ≤ F ∧ 8 + (nl + 11) + L' ≤ L) (hn : As.length = n) (hk : hK σ q % 100 = kd) (hst : st = As.reverse ++ .ref q :: rest) (hrest : (rest.map fun v => v.category).sum ≤ 8) (hd : decode cc pc = .ok (.invokeinterface idx count, 5))
    (kk : ∀ z σ1, VM Γ G QB (k z) σ1 (pc + 5) lv (.int z :: rest)) : VM Γ G QB (bd (f q) k) σ pc lv st := by
  refine VM.call5 hG (ev := evI) (rest := rest) (args := (Value.ref q :: As).toArray) (fun z σ1 h1 H locs cells slots ls hW hF hls hf => ?_) kk
  have hR1 : F' + 1 ≤ G.1.2.2.frames ∧ 8 + (nl + 11) + L' ≤ G.1.2.2.locals := by
    have e1 := hG.frames
    have e2 := hG.locals
    rw [← e1, ← e2] at hRm
    exact hRm
  obtain ⟨a0, ht⟩ := hG.ok.1
  have hw1 : va_Fw C x y (geS G) := va_Fw.moved ⟨hd2.1, hd2.2.1⟩ hG.cx.1.alike (va_Fw.of (ht _ hFw.1) (ht _ hFw.2.1) (ht _ hFw.2.2.1) (ht _ hFw.2.2.2.1) (ht _ hFw.2.2.2.2))
  exact va_runF (As := As) (rest := rest) (hG.vk.1 _ _ hc).2 ⟨hG.exec, hG.bytes, hG.maxL, hG.own, hG.hts⟩ (hC σ z σ1 h1) (va_cwF n hG.hts hw rfl rfl rfl hw1 hd2 hR1) ⟨Pc_blind, hW.recv hG hk h0 hc, fun U hU hw2 => Pc_of hG hW hF U hU hw2⟩ rfl hn hls hst (lv_room hrest) hd hf
theorem va_goodF {own : String} {idx : Nat} {C : String} {x y : MethodName} {b : ByteArray} {nl : Nat} {ret : Option FieldType} (h1 : Cond.methodLink own idx x ∈ lw_all) (h2 : Cond.selects C x y ∈ lw_all) (h3 : Cond.instanceMethod y ∈ lw_all) (h4 : Cond.initialized y.cls ∈ lw_all) (h5 : Cond.code y b nl ret ∈ lw_all) : GoodIn lw_all (va_wsF own idx C x y (ws_ y b nl ret)) := by
  refine lw_app ?_ (lw_meth h5)
  intro w hw
  simp only [List.mem_cons, List.not_mem_nil, or_false] at hw
  rcases hw with e | e | e | e
  · rw [e]; exact h1
  · rw [e]; exact h2
  · rw [e]; exact h3
  · rw [e]; exact h4
/-- a lambda's object in an array of an interface -/
theorem okAny.lam (hG : Gk Γ G own cc F L rt0) {k i : Nat} {ks : List Nat} {x : MethodName} {pc0 index nl : Nat} {σL : Lambda.Shape} {cn E : String} {fwd : ByteArray} {ret : Option FieldType} (hk : k = 61 + i) (hb : i < 18) (hi : lamTab[i]? = some (x, pc0, index, σL, cn)) (hx : x.cls = cn) (hz : lzOk σL cn fwd nl ret) (hO : Cond.instantiable "java/lang/Object" 0 ∈ lw_all) (hE : σL.iface = E) (rest : okAny Γ G σ ks E) : okAny Γ G σ (k :: ks) E := by
  intro H hW q hq
  rw [List.contains_cons, Bool.or_eq_true] at hq
  rcases hq with hq | hq
  · have hk9 : hK σ q = 61 + i := by rw [← hk]; simpa using hq
    obtain ⟨cell, c1, c2, c3, -⟩ := hW.lam (q := q) (k := 61 + i) (by rw [hk9]; omega) (Nat.le_add_right _ _)
    have hU := hG.cx.1
    obtain ⟨kK, -, -, -, -, -, -, -, -, hkK, -⟩ := hG.ok.lamF hi hx hz hO hU
    obtain ⟨one, hat, -⟩ := hG.ok.lam hi
    obtain ⟨-, -, -, -, -, -, -, -, -, -, -, -, -, hcan, -⟩ := State.lambdaAt?_spec hat
    have hcan' : (geS G).lambdaCallable σL (gaA Γ (61 + i)) = true := by
      have hA := hU.alike
      simp only [State.lambdaCallable, hA.findClass, hA.assignable, hA.superclasses, hA.declaredIn] at hcan ⊢
      exact hcan
    obtain ⟨i2, hi2, hasg, -⟩ := State.lambdaCallable_spec hcan'
    refine ⟨cell, c1, by rw [c3]; rfl, ⟨kK, by rw [c2]; exact hkK⟩, fun comp hcomp => ?_⟩
    rw [← hE] at hcomp
    cases hcomp.symm.trans hi2
    rw [c2]; exact hasg
  · exact rest H hW q hq
end LZ6
