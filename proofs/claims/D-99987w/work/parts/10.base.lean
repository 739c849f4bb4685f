/-! THE MINI HEAP: own cells by numerals from 100 on, outer cells below; null is the address 0; 1 to 5 are opaque statics -/
abbrev mA : Type := (Nat → Int32) ⊕ (Nat → Int64) ⊕ (Nat → Nat)
abbrev mC : Type := (FieldType × Nat × mA) ⊕ (Nat × List Value)
abbrev mH : Type := (Nat → Option mC) × Nat × Nat
def xK : Nat := 100
def xCl : List vw_C := [(RX1, TX1, 21), (RX2, TX2, 6), (RX3, TX3, 13), (RX4, TX4, 3), (RX5, TX5, 52), (RX7, TX7, 11), (RX17, TX17, 11), (RX19, TX19, 12), (RX8, TX8, 8), (RX9, TX9, 1), (RX10, TX10, 7), (RX13, TX13, 3), (RX14, TX14, 2), (RX15, TX15, 3), (RX16, TX16, 1), (RX18, TX18, 2), (RX21, TX21, 1), (RX22, TX22, 2), (RX23, TX23, 1), (RX24, TX24, 3), (RX25, TX25, 3), (RJ2, TJ2, 3), (RJ7, TJ7, 4), (RJ8, TJ8, 2)]
def xTy : List FieldType := [.int, .byte, .long, .boolean, .object "java/lang/Object", .object "StrangerMarket$Market", .object "StrangerMarket$Kept"]
/-- a run's place: where the heap ended at its start, the outer cells' addresses, the opaque statics and the outer arrays' picture, the classes, the array classes, the heap at its start -/
abbrev xG : Type := Nat × (Nat → Nat) × ((Nat → Option Nat) × (Nat → Option mC)) × va_G × (FieldType → ClassId) × Heap
def xmu (G : xG) (a : Nat) : Nat := if a < xK then G.2.1 a else G.1 + (a - xK)
def xro (G : xG) (a : Nat) : Option Nat := if a = 0 then none else if a < 6 then G.2.2.1.1 a else some (xmu G a)
def xrv (G : xG) (v : Value) : Value := match v with
  | .ref a => va_rf (xro G a)
  | v => v
def xra (G : xG) (n : Nat) (a : mA) : vp_A := match a with
  | .inl f => (n, .inl f)
  | .inr (.inl f) => (n, .inr (.inl f))
  | .inr (.inr f) => (n, .inr (.inr (.inr (.inr (fun i => xro G (f i))))))
def xrc (G : xG) (c : mC) : va_E := match c with
  | .inl (ty, n, a) => .inl (G.2.2.2.2.1 ty, xra G n a)
  | .inr (ci, fs) => .inr (ci, fs.map (xrv G))
/-- a cell of the mini heap lies in the heap: an array outside is known by its elements alone (xOut) -/
def xAt (G : xG) (a : Nat) (c : mC) (H : Heap) : Prop := (a < xK ∧ G.2.2.1.2 a = some c) ∨ (xK ≤ a ∧ va_at G.2.2.2.1 xCl (xmu G a, xrc G c) H)
def xHR (G : xG) (h : mH) (H : Heap) : Prop := xK ≤ h.2.1 ∧ H.size = G.1 + (h.2.1 - xK) ∧ (∀ q : Nat, q < G.1 → H[q]? = G.2.2.2.2.2[q]?) ∧ ∀ (a : Nat) (c : mC), h.1 a = some c → 6 ≤ a ∧ a < h.2.1 ∧ xAt G a c H
/-- words that don't ride in the lists -/
def xNwB (w : Cond) : Bool := match w with
  | .fieldLinkNest _ _ _ _ _ _ => true
  | .methodLinkNest _ _ _ _ => true
  | .castable _ _ => true
  | .declares _ => true
  | _ => false
def xtys (G : xG) : List (ClassId × FieldType) := xTy.map (fun t => (G.2.2.2.2.1 t, t))
/-- the String constants: whose, which entry, the text, the mini address (its bytes lie 40 farther) -/
def xStr : List (String × Nat × String × Nat) := [("StrangerMarket", 70, "", 8), ("StrangerMarket$Reader", 9, "", 9), ("StrangerMarket$CountyReader", 36, "person", 10), ("StrangerMarket$Reader", 76, " person good sells wants knows foes deals veils bell buys nods tells day or and not home veiled fed sold coins friends hunger number ", 11), ("StrangerMarket$Reader", 78, " ", 12), ("StrangerMarket$CountyReader", 44, "good", 13), ("StrangerMarket$CountyReader", 48, "sells", 14), ("StrangerMarket$CountyReader", 52, "wants", 15), ("StrangerMarket$CountyReader", 56, "knows", 16), ("StrangerMarket$CountyReader", 62, "foes", 17), ("StrangerMarket$CountyReader", 64, "deals", 18), ("StrangerMarket$CountyReader", 72, "veils", 19), ("StrangerMarket$CountyReader", 94, "bell", 20), ("StrangerMarket", 341, " knows", 21), ("StrangerMarket", 350, " nobody", 22), ("StrangerMarket", 355, " veiled", 23), ("StrangerMarket", 360, " home", 24), ("StrangerMarket$BookReader", 42, "day", 25), ("StrangerMarket$BookReader", 81, "buys", 26), ("StrangerMarket$BookReader", 83, "nods", 27), ("StrangerMarket$BookReader", 85, "veils", 28), ("StrangerMarket$BookReader", 87, "tells", 29), ("StrangerMarket$SentenceReader", 67, "not", 30), ("StrangerMarket$SentenceReader", 69, "knows", 31), ("StrangerMarket$SentenceReader", 71, "wants", 32), ("StrangerMarket$SentenceReader", 48, "home", 33), ("StrangerMarket$SentenceReader", 50, "veiled", 34), ("StrangerMarket$SentenceReader", 52, "fed", 35), ("StrangerMarket$SentenceReader", 54, "sold", 36), ("StrangerMarket$SentenceReader", 56, "coins", 37), ("StrangerMarket$SentenceReader", 58, "friends", 38), ("StrangerMarket$SentenceReader", 60, "hunger", 39), ("StrangerMarket$SentenceReader", 62, "number", 40), ("StrangerMarket$SentenceReader", 47, "and", 41), ("StrangerMarket$SentenceReader", 34, "or", 42)]
/-- the statics that are read -/
def xSta : List (String × String × String × Value) := [("java/util/ArrayList", "DEFAULTCAPACITY_EMPTY_ELEMENTDATA", "[Ljava/lang/Object;", .ref 6), ("java/lang/String", "COMPACT_STRINGS", "Z", .int 1), ("java/lang/Throwable", "UNASSIGNED_STACK", "[Ljava/lang/StackTraceElement;", .ref 1), ("java/lang/Throwable", "SUPPRESSED_SENTINEL", "Ljava/util/List;", .ref 2), ("jdk/internal/util/Preconditions", "SIOOBE_FORMATTER", "Ljava/util/function/BiFunction;", .ref 3)]
/-- a private method of an abstract class, chosen for the classes below it -/
def xNx : List Cond := [.selects "StrangerMarket$CountyReader" ⟨"StrangerMarket$Reader", "byteAt", "(I)I"⟩ ⟨"StrangerMarket$Reader", "byteAt", "(I)I"⟩, .selects "StrangerMarket$BookReader" ⟨"StrangerMarket$Reader", "byteAt", "(I)I"⟩ ⟨"StrangerMarket$Reader", "byteAt", "(I)I"⟩, .selects "StrangerMarket$SentenceReader" ⟨"StrangerMarket$Reader", "byteAt", "(I)I"⟩ ⟨"StrangerMarket$Reader", "byteAt", "(I)I"⟩, .selects "java/lang/StringBuilder" ⟨"java/lang/AbstractStringBuilder", "ensureCapacityInternal", "(I)V"⟩ ⟨"java/lang/AbstractStringBuilder", "ensureCapacityInternal", "(I)V"⟩, .selects "java/lang/StringBuilder" ⟨"java/lang/AbstractStringBuilder", "newCapacity", "(I)I"⟩ ⟨"java/lang/AbstractStringBuilder", "newCapacity", "(I)I"⟩, .selects "java/lang/StringBuilder" ⟨"java/lang/AbstractStringBuilder", "putStringAt", "(ILjava/lang/String;)V"⟩ ⟨"java/lang/AbstractStringBuilder", "putStringAt", "(ILjava/lang/String;)V"⟩, .selects "java/lang/StringBuilder" ⟨"java/lang/AbstractStringBuilder", "inflateIfNeededFor", "(Ljava/lang/String;)V"⟩ ⟨"java/lang/AbstractStringBuilder", "inflateIfNeededFor", "(Ljava/lang/String;)V"⟩]
def xval (G : xG) (a : mA) (j : Nat) : Value := match a with
  | .inl f => .int (f j)
  | .inr (.inl f) => .long (f j)
  | .inr (.inr f) => va_rf (xro G (f j))
/-- an array's cell, by its elements -/
def xCellA (G : xG) (U : State) (ty : FieldType) (n : Nat) (a : mA) (cell : Cell) : Prop := U.isArrayOf cell ty ∧ cell.vm ≠ .unknown ∧ (n ≤ cell.slots.size ∧ cell.slots.size.toInt32 = Int32.ofNat n) ∧ ∀ j : Nat, j < n → cell.slots[j]? = some (xval G a j)
/-- what is outside and stays -/
def xOut (G : xG) (U : State) : Prop := G.1 = G.2.2.2.2.2.size ∧ (∀ a : Nat, 6 ≤ a → a < xK → G.2.1 a < G.1) ∧ (∀ q ∈ xStr, vk_R q.1 q.2.1 q.2.2.1 (G.2.1 q.2.2.2) U) ∧ (∀ q ∈ xSta, va_Z q.1 q.2.1 q.2.2.1 (xrv G q.2.2.2) (fun a => G.1 ≤ a) U G.2.2.2.2.2) ∧ (∀ w ∈ xNx, va_Nw w U) ∧ (∃ mi : Nat, G.2.2.1.1 5 = some mi ∧ va_Mi "[Ljava/lang/Object;" mi U) ∧ vx_L Bundle.tN "UNASSIGNED_STACK" Bundle.steD (fun a => G.1 ≤ a) U G.2.2.2.2.2 ∧ vx_L Bundle.tN "SUPPRESSED_SENTINEL" Bundle.listD (fun a => G.1 ≤ a) U G.2.2.2.2.2 ∧ (∀ (a : Nat) (ty : FieldType) (n : Nat) (x : mA), 6 ≤ a → a < xK → G.2.2.1.2 a = some (.inl (ty, n, x)) → ∃ cell : Cell, G.2.2.2.2.2[G.2.1 a]? = some cell ∧ xCellA G U ty n x cell) ∧ ∀ (a ci : Nat) (fs : List Value), 6 ≤ a → a < xK → G.2.2.1.2 a = some (.inr (ci, fs)) → ∃ (q : vw_C) (cell : Cell), xCl[ci]? = some q ∧ G.2.2.2.2.2[G.2.1 a]? = some cell ∧ cell.vm.isStatics = false ∧ cell.vm ≠ .unknown ∧ cell.cls = G.2.2.2.1.1 ci ∧ ∀ k : Nat, k < q.2.2 → cell.slots[G.2.2.2.1.2 ci k]? = some (vp_V (fs.map (xrv G)) k)
def xWD (G : xG) (U : State) : Prop := va_K G.2.2.2.1 xCl (xtys G) U ∧ (∀ w ∈ lw_tbl, xNwB w = true → va_Nw w U) ∧ va_AO "java/lang/Object" U ∧ va_AO "StrangerMarket$Market" U ∧ va_AO "StrangerMarket$Kept" U ∧ xOut G U
abbrev xC : Type := (Program × Launch × Env × Room) × (State × MethodId × Array Value × List Frame) × (Method × Code × (State → Prop)) × (Nat × Nat) × (Nat × Nat)
/-- a method: code, name, locals, answer, frames below it -/
abbrev xM : Type := ByteArray × MethodName × Nat × Option FieldType × Nat
def xOK (G : xG) (C : xC) (M : xM) : Prop :=
  C.1.1.tables.exec = Jvm.exec ∧ C.2.2.1.2.1.code = M.1 ∧ C.2.1.1.vm.findClass M.2.1.cls = some C.2.1.2.1.cls ∧ C.2.2.1.2.1.maxLocals = M.2.2.1 ∧
  (∀ w ∈ lw_all, w.before C.2.1.2.2.1 C.2.1.1 = true) ∧ C.2.2.1.1.sig.returnType = M.2.2.2.1 ∧ C.2.2.1.1.locks = false ∧ C.2.2.1.1.name = M.2.1.name ∧ xWD G C.2.1.1 ∧
  (G.1 ≤ C.2.1.1.heap.size ∧ ∀ q : Nat, q < G.1 → C.2.1.1.heap[q]? = G.2.2.2.2.2[q]?) ∧ M.2.2.2.2 ≤ C.1.2.2.2.frames ∧ 64 * M.2.2.2.2 ≤ C.1.2.2.2.locals ∧ C.2.2.2.2.1 - C.2.2.2.1.1 ≤ C.1.2.2.2.cells ∧ C.2.2.2.2.2 - C.2.2.2.1.2 ≤ C.1.2.2.2.slots ∧ C.1.2.1.stackTraces = false
abbrev xW (C : xC) (H : Heap) (locs : List Loc) (cells slots : Nat) (g : JFrame) : Prop := W C.1.1 C.1.2.1 C.1.2.2.1 C.1.2.2.2 C.2.1.1 C.2.1.2.1 C.2.1.2.2.1 C.2.1.2.2.2 C.2.2.1.1 C.2.2.1.2.1 H locs cells slots C.2.2.1.2.2 g
def xrl (G : xG) (lv : List (Nat × Value)) : List (Nat × Value) := lv.map (fun q => (q.1, xrv G q.2))
/-- from pc, with the locals lv, the stack st and the mini heap h, the machine comes to its end -/
def X (G : xG) (C : xC) (M : xM) (pc : Nat) (lv : List (Nat × Value)) (st : List Value) (h : mH) : Prop :=
  (h.2.1 ≤ C.2.2.2.2.1 ∧ h.2.2 ≤ C.2.2.2.2.2) ∧ (xOK G C M → C.2.2.2.1.1 ≤ h.2.1 → C.2.2.2.1.2 ≤ h.2.2 → ∀ (ls : Array Slot) (H : Heap) (locs : List Loc), lv_has ls M.2.2.1 (xrl G lv) → xHR G h H → (∀ q ∈ locs, G.1 ≤ q.base) → xW C H locs (h.2.1 - C.2.2.2.1.1) (h.2.2 - C.2.2.2.1.2) (F0 C.2.1.2.1 pc ls (st.map (xrv G))))
section XL
variable {G : xG} {C : xC} {M : xM} {pc : Nat} {lv : List (Nat × Value)} {st : List Value} {h : mH}
theorem xrv_int (x : Int32) : xrv G (.int x) = .int x := rfl
theorem xrv_cat (v : Value) : (xrv G v).category = v.category := by
  cases v <;> first | rfl | skip
  rename_i a
  show (va_rf (xro G a)).category = 1
  cases xro G a <;> rfl
theorem X.step {pc' : Nat} {st' : List Value} (kk : X G C M pc' lv st' h) (f : xOK G C M → ∀ (ls : Array Slot) (H : Heap) (locs : List Loc) (cells slots : Nat), lv_has ls M.2.2.1 (xrl G lv) → xW C H locs cells slots (F0 C.2.1.2.1 pc' ls (st'.map (xrv G))) → xW C H locs cells slots (F0 C.2.1.2.1 pc ls (st.map (xrv G)))) : X G C M pc lv st h :=
  ⟨kk.1, fun hC h1 h2 ls H locs hl hR hq => f hC ls H locs _ _ hl (kk.2 hC h1 h2 ls H locs hl hR hq)⟩
theorem X.stepL {pc' : Nat} {lv' : List (Nat × Value)} {st' : List Value} (kk : X G C M pc' lv' st' h) (f : xOK G C M → ∀ (ls : Array Slot) (H : Heap) (locs : List Loc) (cells slots : Nat), lv_has ls M.2.2.1 (xrl G lv) → (∀ ls' : Array Slot, lv_has ls' M.2.2.1 (xrl G lv') → xW C H locs cells slots (F0 C.2.1.2.1 pc' ls' (st'.map (xrv G)))) → xW C H locs cells slots (F0 C.2.1.2.1 pc ls (st.map (xrv G)))) : X G C M pc lv st h :=
  ⟨kk.1, fun hC h1 h2 ls H locs hl hR hq => f hC ls H locs _ _ hl (fun ls' hl' => kk.2 hC h1 h2 ls' H locs hl' hR hq)⟩
theorem X.step2 {p1 p2 : Nat} {s1 s2 : List Value} {c : Prop} [Decidable c] (k1 : c → X G C M p1 lv s1 h) (k2 : ¬ c → X G C M p2 lv s2 h) (f : xOK G C M → ∀ (ls : Array Slot) (H : Heap) (locs : List Loc) (cells slots : Nat), (c → xW C H locs cells slots (F0 C.2.1.2.1 p1 ls (s1.map (xrv G)))) → (¬ c → xW C H locs cells slots (F0 C.2.1.2.1 p2 ls (s2.map (xrv G)))) → xW C H locs cells slots (F0 C.2.1.2.1 pc ls (st.map (xrv G)))) : X G C M pc lv st h := by
  refine ⟨?_, fun hC h1 h2 ls H locs hl hR hq => f hC ls H locs _ _ (fun hc => (k1 hc).2 hC h1 h2 ls H locs hl hR hq) (fun hc => (k2 hc).2 hC h1 h2 ls H locs hl hR hq)⟩
  by_cases hc : c
  · exact (k1 hc).1
  · exact (k2 hc).1
theorem xl_at {ls : Array Slot} {nL : Nat} (hl : lv_has ls nL (xrl G lv)) {j i : Nat} {v : Value} (hk : lv[j]? = some (i, v)) : ls[i]? = some (.val (xrv G v)) := by
  refine lv_at hl j (i := i) (v := xrv G v) ?_
  unfold xrl
  rw [List.getElem?_map, hk]
  rfl
/-- fewer locals, in any order -/
theorem X.sub {lv' : List (Nat × Value)} (ks : List Nat) (hs : lv_pick lv ks = lv') (kk : X G C M pc lv' st h) : X G C M pc lv st h := by
  refine ⟨kk.1, fun hC h1 h2 ls H locs hl hR hq => kk.2 hC h1 h2 ls H locs ?_ hR hq⟩
  refine ⟨hl.1, hl.2.1, fun q hq => ?_⟩
  subst hs
  unfold xrl at hq
  obtain ⟨q0, h0, rfl⟩ := List.mem_map.mp hq
  obtain ⟨k, -, hk⟩ := List.mem_filterMap.mp h0
  exact xl_at (i := q0.1) (v := q0.2) hl hk
/-- the filter of a store, on the mini side -/
def xfl (lv : List (Nat × Value)) (i : Nat) (v : Value) : List (Nat × Value) := (i, v) :: lv.filter (fun q => !(q.1 == i) && !(q.1 + 1 == i && q.2.category == 2))
theorem xfl_rl (lv : List (Nat × Value)) (i : Nat) (v : Value) : (i, xrv G v) :: (xrl G lv).filter (fun q => !(q.1 == i) && !(q.1 + 1 == i && q.2.category == 2)) = xrl G (xfl lv i v) := by
  unfold xfl xrl
  rw [List.map_cons, List.filter_map]
  congr 2
  refine List.filter_congr (fun q _ => ?_)
  show (!(q.1 == i) && !(q.1 + 1 == i && (xrv G q.2).category == 2)) = _
  rw [xrv_cat]
theorem xl_pick {ls : Array Slot} {nL : Nat} (hl : lv_has ls nL (xrl G lv)) {lv' : List (Nat × Value)} {ks : List Nat} (hs : lv_pick lv ks = lv') : lv_has ls nL (xrl G lv') := by
  refine ⟨hl.1, hl.2.1, fun q hq => ?_⟩
  subst hs
  unfold xrl at hq
  obtain ⟨q0, h0, rfl⟩ := List.mem_map.mp hq
  obtain ⟨k, -, hk⟩ := List.mem_filterMap.mp h0
  exact xl_at (i := q0.1) (v := q0.2) hl hk
theorem x_iconst {n : Int} (v : Int32) (hd : decode M.1 pc = .ok (.iconst n, 1)) (hv : Int32.ofInt n = v) (kk : X G C M (pc + 1) lv (.int v :: st) h) : X G C M pc lv (st) h := X.step kk (fun hC ls H locs cells slots hl k => lv_iconst hC.1 hC.2.1 hd hv k)
theorem x_bipush {n : Int} (v : Int32) (hd : decode M.1 pc = .ok (.bipush n, 2)) (hv : (Int8.ofInt n).toInt32 = v) (kk : X G C M (pc + 2) lv (.int v :: st) h) : X G C M pc lv (st) h := X.step kk (fun hC ls H locs cells slots hl k => lv_bipush hC.1 hC.2.1 hd hv k)
theorem x_sipush {n : Int} (v : Int32) (hd : decode M.1 pc = .ok (.sipush n, 3)) (hv : (Int16.ofInt n).toInt32 = v) (kk : X G C M (pc + 3) lv (.int v :: st) h) : X G C M pc lv (st) h := X.step kk (fun hC ls H locs cells slots hl k => lv_sipush hC.1 hC.2.1 hd hv k)
theorem x_lconst {n : Fin 2} (v : Int64) (hd : decode M.1 pc = .ok (.lconst n, 1)) (hv : Int64.ofNat (n : Nat) = v) (kk : X G C M (pc + 1) lv (.long v :: st) h) : X G C M pc lv (st) h := X.step kk (fun hC ls H locs cells slots hl k => lv_lconst hC.1 hC.2.1 hd hv k)
theorem x_iload_n {i : Fin 4} {x : Int32} (j : Nat) (hk : lv[j]? = some ((i : Nat), .int x)) (hd : decode M.1 pc = .ok (.iload_n i, 1)) (kk : X G C M (pc + 1) lv (.int x :: st) h) : X G C M pc lv (st) h := X.step kk (fun hC ls H locs cells slots hl k => lv_iload_n hC.1 hC.2.1 hd rfl (xl_at hl hk) k)
theorem x_iload {i : Nat} {x : Int32} (j : Nat) (hk : lv[j]? = some (i, .int x)) (hd : decode M.1 pc = .ok (.iload i, 2)) (kk : X G C M (pc + 2) lv (.int x :: st) h) : X G C M pc lv (st) h := X.step kk (fun hC ls H locs cells slots hl k => lv_iload hC.1 hC.2.1 hd (xl_at hl hk) k)
theorem x_lload_n {i : Fin 4} {x : Int64} (j : Nat) (hk : lv[j]? = some ((i : Nat), .long x)) (hd : decode M.1 pc = .ok (.lload_n i, 1)) (kk : X G C M (pc + 1) lv (.long x :: st) h) : X G C M pc lv (st) h := X.step kk (fun hC ls H locs cells slots hl k => lv_lload_n hC.1 hC.2.1 hd rfl (xl_at hl hk) k)
theorem x_lload {i : Nat} {x : Int64} (j : Nat) (hk : lv[j]? = some (i, .long x)) (hd : decode M.1 pc = .ok (.lload i, 2)) (kk : X G C M (pc + 2) lv (.long x :: st) h) : X G C M pc lv (st) h := X.step kk (fun hC ls H locs cells slots hl k => lv_lload hC.1 hC.2.1 hd (xl_at hl hk) k)
theorem x_aload_n {i : Fin 4} {r : Nat} (j : Nat) (hk : lv[j]? = some ((i : Nat), .ref r)) (hd : decode M.1 pc = .ok (.aload_n i, 1)) (kk : X G C M (pc + 1) lv (.ref r :: st) h) : X G C M pc lv st h := X.step kk (fun hC ls H locs cells slots hl k => by
  have h9 : ls[(i : Nat)]? = some (.val (va_rf (xro G r))) := xl_at hl hk
  have k : xW C H locs cells slots (F0 C.2.1.2.1 (pc + 1) ls (va_rf (xro G r) :: st.map (xrv G))) := k
  cases h0 : xro G r with
  | none => rw [h0] at h9 k; exact lv_aload_nN hC.1 hC.2.1 hd rfl h9 k
  | some a => rw [h0] at h9 k; exact lv_aload_n hC.1 hC.2.1 hd rfl h9 k)
theorem x_aload {i : Nat} {r : Nat} (j : Nat) (hk : lv[j]? = some (i, .ref r)) (hd : decode M.1 pc = .ok (.aload i, 2)) (kk : X G C M (pc + 2) lv (.ref r :: st) h) : X G C M pc lv st h := X.step kk (fun hC ls H locs cells slots hl k => by
  have h9 : ls[i]? = some (.val (va_rf (xro G r))) := xl_at hl hk
  have k : xW C H locs cells slots (F0 C.2.1.2.1 (pc + 2) ls (va_rf (xro G r) :: st.map (xrv G))) := k
  cases h0 : xro G r with
  | none => rw [h0] at h9 k; exact lv_aloadN hC.1 hC.2.1 hd h9 k
  | some a => rw [h0] at h9 k; exact lv_aload hC.1 hC.2.1 hd h9 k)
theorem x_istore_n {i : Fin 4} {x : Int32} {lv' : List (Nat × Value)} (ks : List Nat) (hd : decode M.1 pc = .ok (.istore_n i, 1)) (hn : (i : Nat) < M.2.2.1) (hs : lv_pick (xfl lv (i : Nat) (.int x)) ks = lv') (kk : X G C M (pc + 1) lv' st h) : X G C M pc lv (.int x :: st) h := X.stepL kk (fun hC ls H locs cells slots hl k => lv_istore_n hC.1 hC.2.1 hd rfl hl hn (xfl_rl lv (i : Nat) (.int x)) (fun ls' h' => k ls' (xl_pick h' hs)))
theorem x_istore {i : Nat} {x : Int32} {lv' : List (Nat × Value)} (ks : List Nat) (hd : decode M.1 pc = .ok (.istore i, 2)) (hn : i < M.2.2.1) (hs : lv_pick (xfl lv i (.int x)) ks = lv') (kk : X G C M (pc + 2) lv' st h) : X G C M pc lv (.int x :: st) h := X.stepL kk (fun hC ls H locs cells slots hl k => lv_istore hC.1 hC.2.1 hd hl hn (xfl_rl lv i (.int x)) (fun ls' h' => k ls' (xl_pick h' hs)))
theorem x_astore_n {i : Fin 4} {r : Nat} {lv' : List (Nat × Value)} (ks : List Nat) (hd : decode M.1 pc = .ok (.astore_n i, 1)) (hn : (i : Nat) < M.2.2.1) (hs : lv_pick (xfl lv (i : Nat) (.ref r)) ks = lv') (kk : X G C M (pc + 1) lv' st h) : X G C M pc lv (.ref r :: st) h := X.stepL kk (fun hC ls H locs cells slots hl k => by
  show xW C H locs cells slots (F0 C.2.1.2.1 pc ls (va_rf (xro G r) :: st.map (xrv G)))
  have e := xfl_rl (G := G) lv (i : Nat) (.ref r)
  have e : ((i : Nat), va_rf (xro G r)) :: (xrl G lv).filter (fun q => !(q.1 == (i : Nat)) && !(q.1 + 1 == (i : Nat) && q.2.category == 2)) = xrl G (xfl lv (i : Nat) (.ref r)) := e
  cases h0 : xro G r with
  | none => rw [h0] at e; exact lv_astore_nN hC.1 hC.2.1 hd rfl hl hn e (fun ls' h' => k ls' (xl_pick h' hs))
  | some a => rw [h0] at e; exact lv_astore_n hC.1 hC.2.1 hd rfl hl hn e (fun ls' h' => k ls' (xl_pick h' hs)))
theorem x_astore {i : Nat} {r : Nat} {lv' : List (Nat × Value)} (ks : List Nat) (hd : decode M.1 pc = .ok (.astore i, 2)) (hn : i < M.2.2.1) (hs : lv_pick (xfl lv i (.ref r)) ks = lv') (kk : X G C M (pc + 2) lv' st h) : X G C M pc lv (.ref r :: st) h := X.stepL kk (fun hC ls H locs cells slots hl k => by
  show xW C H locs cells slots (F0 C.2.1.2.1 pc ls (va_rf (xro G r) :: st.map (xrv G)))
  have e := xfl_rl (G := G) lv i (.ref r)
  have e : (i, va_rf (xro G r)) :: (xrl G lv).filter (fun q => !(q.1 == i) && !(q.1 + 1 == i && q.2.category == 2)) = xrl G (xfl lv i (.ref r)) := e
  cases h0 : xro G r with
  | none => rw [h0] at e; exact lv_astoreN hC.1 hC.2.1 hd hl hn e (fun ls' h' => k ls' (xl_pick h' hs))
  | some a => rw [h0] at e; exact lv_astore hC.1 hC.2.1 hd hl hn e (fun ls' h' => k ls' (xl_pick h' hs)))
theorem x_iinc {i : Nat} {n : Int} {x : Int32} {lv' : List (Nat × Value)} (j : Nat) (v : Int32) (ks : List Nat) (hd : decode M.1 pc = .ok (.iinc i n, 3)) (hk : lv[j]? = some (i, .int x)) (hv : x + Int32.ofInt n = v) (hn : i < M.2.2.1) (hs : lv_pick (xfl lv i (.int v)) ks = lv') (kk : X G C M (pc + 3) lv' st h) : X G C M pc lv st h := X.stepL kk (fun hC ls H locs cells slots hl k => lv_iinc (k := j) hC.1 hC.2.1 hd hl (by unfold xrl; rw [List.getElem?_map, hk]; rfl) hv hn (xfl_rl lv i (.int v)) (fun ls' h' => k ls' (xl_pick h' hs)))
theorem x_iadd {x y : Int32} (hd : decode M.1 pc = .ok (.iadd, 1)) (kk : X G C M (pc + 1) lv (.int (x + y) :: st) h) : X G C M pc lv (.int y :: .int x :: st) h := X.step kk (fun hC ls H locs cells slots hl k => lv_iadd hC.1 hC.2.1 hd k)
theorem x_isub {x y : Int32} (hd : decode M.1 pc = .ok (.isub, 1)) (kk : X G C M (pc + 1) lv (.int (x - y) :: st) h) : X G C M pc lv (.int y :: .int x :: st) h := X.step kk (fun hC ls H locs cells slots hl k => lv_isub hC.1 hC.2.1 hd k)
theorem x_imul {x y : Int32} (hd : decode M.1 pc = .ok (.imul, 1)) (kk : X G C M (pc + 1) lv (.int (x * y) :: st) h) : X G C M pc lv (.int y :: .int x :: st) h := X.step kk (fun hC ls H locs cells slots hl k => lv_imul hC.1 hC.2.1 hd k)
theorem x_iand {x y : Int32} (hd : decode M.1 pc = .ok (.iand, 1)) (kk : X G C M (pc + 1) lv (.int (x &&& y) :: st) h) : X G C M pc lv (.int y :: .int x :: st) h := X.step kk (fun hC ls H locs cells slots hl k => lv_iand hC.1 hC.2.1 hd k)
theorem x_ior {x y : Int32} (hd : decode M.1 pc = .ok (.ior, 1)) (kk : X G C M (pc + 1) lv (.int (x ||| y) :: st) h) : X G C M pc lv (.int y :: .int x :: st) h := X.step kk (fun hC ls H locs cells slots hl k => lv_ior hC.1 hC.2.1 hd k)
theorem x_ixor {x y : Int32} (hd : decode M.1 pc = .ok (.ixor, 1)) (kk : X G C M (pc + 1) lv (.int (x ^^^ y) :: st) h) : X G C M pc lv (.int y :: .int x :: st) h := X.step kk (fun hC ls H locs cells slots hl k => lv_ixor hC.1 hC.2.1 hd k)
theorem x_ishl {x y : Int32} (hd : decode M.1 pc = .ok (.ishl, 1)) (kk : X G C M (pc + 1) lv (.int (x <<< (y &&& 31)) :: st) h) : X G C M pc lv (.int y :: .int x :: st) h := X.step kk (fun hC ls H locs cells slots hl k => lv_ishl hC.1 hC.2.1 hd k)
theorem x_ishr {x y : Int32} (hd : decode M.1 pc = .ok (.ishr, 1)) (kk : X G C M (pc + 1) lv (.int (x >>> (y &&& 31)) :: st) h) : X G C M pc lv (.int y :: .int x :: st) h := X.step kk (fun hC ls H locs cells slots hl k => lv_ishr hC.1 hC.2.1 hd k)
theorem x_idiv {x y : Int32} (hd : decode M.1 pc = .ok (.idiv, 1)) (hy : ¬ y = 0) (kk : X G C M (pc + 1) lv (.int (x / y) :: st) h) : X G C M pc lv (.int y :: .int x :: st) h := X.step kk (fun hC ls H locs cells slots hl k => lv_idiv hC.1 hC.2.1 hd hy k)
theorem x_irem {x y : Int32} (hd : decode M.1 pc = .ok (.irem, 1)) (hy : ¬ y = 0) (kk : X G C M (pc + 1) lv (.int (x - x / y * y) :: st) h) : X G C M pc lv (.int y :: .int x :: st) h := X.step kk (fun hC ls H locs cells slots hl k => lv_irem hC.1 hC.2.1 hd hy k)
theorem x_iushr {x y : Int32} (hd : decode M.1 pc = .ok (.iushr, 1)) (kk : X G C M (pc + 1) lv (.int ((x.toUInt32 >>> (y.toUInt32 &&& Int32.toUInt32 31)).toInt32) :: st) h) : X G C M pc lv (.int y :: .int x :: st) h := X.step kk (fun hC ls H locs cells slots hl k => lv_iushr hC.1 hC.2.1 hd rfl k)
theorem x_ineg {x : Int32} (hd : decode M.1 pc = .ok (.ineg, 1)) (kk : X G C M (pc + 1) lv (.int (-x) :: st) h) : X G C M pc lv (.int x :: st) h := X.step kk (fun hC ls H locs cells slots hl k => lv_ineg hC.1 hC.2.1 hd k)
theorem x_land {x y : Int64} (hd : decode M.1 pc = .ok (.land, 1)) (kk : X G C M (pc + 1) lv (.long (x &&& y) :: st) h) : X G C M pc lv (.long y :: .long x :: st) h := X.step kk (fun hC ls H locs cells slots hl k => lv_land hC.1 hC.2.1 hd k)
theorem x_lor {x y : Int64} (hd : decode M.1 pc = .ok (.lor, 1)) (kk : X G C M (pc + 1) lv (.long (x ||| y) :: st) h) : X G C M pc lv (.long y :: .long x :: st) h := X.step kk (fun hC ls H locs cells slots hl k => lv_lor hC.1 hC.2.1 hd k)
theorem x_lshl {x : Int64} {y : Int32} (hd : decode M.1 pc = .ok (.lshl, 1)) (kk : X G C M (pc + 1) lv (.long (x <<< (y.toInt64 &&& 63)) :: st) h) : X G C M pc lv (.int y :: .long x :: st) h := X.step kk (fun hC ls H locs cells slots hl k => lv_lshl hC.1 hC.2.1 hd rfl k)
theorem x_lshr {x : Int64} {y : Int32} (hd : decode M.1 pc = .ok (.lshr, 1)) (kk : X G C M (pc + 1) lv (.long (x >>> (y.toInt64 &&& 63)) :: st) h) : X G C M pc lv (.int y :: .long x :: st) h := X.step kk (fun hC ls H locs cells slots hl k => lv_lshr hC.1 hC.2.1 hd rfl k)
theorem x_lcmp {x y : Int64} (hd : decode M.1 pc = .ok (.lcmp, 1)) (kk : X G C M (pc + 1) lv (.int (lg_cmp x y) :: st) h) : X G C M pc lv (.long y :: .long x :: st) h := X.step kk (fun hC ls H locs cells slots hl k => W.lcmp hC.1 hC.2.1 hd k)
theorem x_i2l {x : Int32} (hd : decode M.1 pc = .ok (.i2l, 1)) (kk : X G C M (pc + 1) lv (.long (x.toInt64) :: st) h) : X G C M pc lv (.int x :: st) h := X.step kk (fun hC ls H locs cells slots hl k => lv_i2l hC.1 hC.2.1 hd rfl k)
theorem x_l2i {x : Int64} (hd : decode M.1 pc = .ok (.l2i, 1)) (kk : X G C M (pc + 1) lv (.int (x.toInt32) :: st) h) : X G C M pc lv (.long x :: st) h := X.step kk (fun hC ls H locs cells slots hl k => lv_l2i hC.1 hC.2.1 hd rfl k)
theorem x_i2b {x : Int32} (hd : decode M.1 pc = .ok (.i2b, 1)) (kk : X G C M (pc + 1) lv (.int (x.toInt8.toInt32) :: st) h) : X G C M pc lv (.int x :: st) h := X.step kk (fun hC ls H locs cells slots hl k => lv_i2b hC.1 hC.2.1 hd rfl k)
theorem x_i2c {x : Int32} (hd : decode M.1 pc = .ok (.i2c, 1)) (kk : X G C M (pc + 1) lv (.int ((x.toUInt32 % 65536).toInt32) :: st) h) : X G C M pc lv (.int x :: st) h := X.step kk (fun hC ls H locs cells slots hl k => lv_i2c hC.1 hC.2.1 hd rfl k)
theorem x_dup {v : Value} (hd : decode M.1 pc = .ok (.dup, 1)) (hv : v.category = 1) (kk : X G C M (pc + 1) lv (v :: v :: st) h) : X G C M pc lv (v :: st) h := X.step kk (fun hC ls H locs cells slots hl k => lv_dup hC.1 hC.2.1 hd ((xrv_cat v).trans hv) k)
theorem x_pop {v : Value} (hd : decode M.1 pc = .ok (.pop, 1)) (hv : v.category = 1) (kk : X G C M (pc + 1) lv (st) h) : X G C M pc lv (v :: st) h := X.step kk (fun hC ls H locs cells slots hl k => lv_pop hC.1 hC.2.1 hd ((xrv_cat v).trans hv) k)
theorem x_dup_x1 {v w : Value} (hd : decode M.1 pc = .ok (.dup_x1, 1)) (hv : v.category = 1) (hw : w.category = 1) (kk : X G C M (pc + 1) lv (v :: w :: v :: st) h) : X G C M pc lv (v :: w :: st) h := X.step kk (fun hC ls H locs cells slots hl k => lv_dup_x1 hC.1 hC.2.1 hd ((xrv_cat v).trans hv) ((xrv_cat w).trans hw) k)
theorem x_dup2 {v w : Value} (hd : decode M.1 pc = .ok (.dup2, 1)) (hv : v.category = 1) (hw : w.category = 1) (kk : X G C M (pc + 1) lv (v :: w :: v :: w :: st) h) : X G C M pc lv (v :: w :: st) h := X.step kk (fun hC ls H locs cells slots hl k => lv_dup2_11 hC.1 hC.2.1 hd ((xrv_cat v).trans hv) ((xrv_cat w).trans hw) k)
theorem x_null  (hd : decode M.1 pc = .ok (.aconst_null, 1)) (kk : X G C M (pc + 1) lv (.ref 0 :: st) h) : X G C M pc lv (st) h := X.step kk (fun hC ls H locs cells slots hl k => lv_null hC.1 hC.2.1 hd k)
theorem x_ldc {ix : Nat} {v : Int32} (hw : Cond.constant M.2.1.cls ix v ∈ lw_all) (hd : decode M.1 pc = .ok (.ldc ix, 2)) (kk : X G C M (pc + 2) lv (.int v :: st) h) : X G C M pc lv (st) h := X.step kk (fun hC ls H locs cells slots hl k => lv_ldc hC.1 hC.2.1 hC.2.2.1 (hC.2.2.2.2.1 _ hw) hd k)
theorem x_ldcw {ix : Nat} {v : Int32} (hw : Cond.constant M.2.1.cls ix v ∈ lw_all) (hd : decode M.1 pc = .ok (.ldc_w ix, 3)) (kk : X G C M (pc + 3) lv (.int v :: st) h) : X G C M pc lv (st) h := X.step kk (fun hC ls H locs cells slots hl k => lv_ldcw hC.1 hC.2.1 hC.2.2.1 (hC.2.2.2.2.1 _ hw) hd k)
theorem x_ldc2 {ix : Nat} {v : Int64} (hw : Cond.constantLong M.2.1.cls ix v ∈ lw_all) (hd : decode M.1 pc = .ok (.ldc2_w ix, 3)) (kk : X G C M (pc + 3) lv (.long v :: st) h) : X G C M pc lv (st) h := X.step kk (fun hC ls H locs cells slots hl k => lv_ldc2 hC.1 hC.2.1 hC.2.2.1 (hC.2.2.2.2.1 _ hw) hd k)
theorem x_goto {off : Int} {tgt : Nat} (hd : decode M.1 pc = .ok (.goto off, 3)) (ht : (pc : Int) + off = (tgt : Int)) (kk : X G C M tgt lv st h) : X G C M pc lv st h := X.step kk (fun hC ls H locs cells slots hl k => lv_goto hC.1 hC.2.1 hd ht k)
theorem x_if_eq {x : Int32} {off : Int} (tgt : Nat) (hd : decode M.1 pc = .ok (.ifCond .eq off, 3)) (ht : (pc : Int) + off = (tgt : Int)) (k1 : x = 0 → X G C M tgt lv st h) (k2 : ¬ (x = 0) → X G C M (pc + 3) lv st h) : X G C M pc lv (.int x :: st) h := X.step2 k1 k2 (fun hC ls H locs cells slots a b => lv_if_eq hC.1 hC.2.1 hd ht a b)
theorem x_if_ne {x : Int32} {off : Int} (tgt : Nat) (hd : decode M.1 pc = .ok (.ifCond .ne off, 3)) (ht : (pc : Int) + off = (tgt : Int)) (k1 : ¬ (x = 0) → X G C M tgt lv st h) (k2 : x = 0 → X G C M (pc + 3) lv st h) : X G C M pc lv (.int x :: st) h := X.step2 k2 k1 (fun hC ls H locs cells slots b a => lv_if_ne hC.1 hC.2.1 hd ht a b)
theorem x_if_lt {x : Int32} {off : Int} (tgt : Nat) (hd : decode M.1 pc = .ok (.ifCond .lt off, 3)) (ht : (pc : Int) + off = (tgt : Int)) (k1 : x < 0 → X G C M tgt lv st h) (k2 : ¬ (x < 0) → X G C M (pc + 3) lv st h) : X G C M pc lv (.int x :: st) h := X.step2 k1 k2 (fun hC ls H locs cells slots a b => lv_if_lt hC.1 hC.2.1 hd ht a b)
theorem x_if_ge {x : Int32} {off : Int} (tgt : Nat) (hd : decode M.1 pc = .ok (.ifCond .ge off, 3)) (ht : (pc : Int) + off = (tgt : Int)) (k1 : 0 ≤ x → X G C M tgt lv st h) (k2 : ¬ (0 ≤ x) → X G C M (pc + 3) lv st h) : X G C M pc lv (.int x :: st) h := X.step2 k1 k2 (fun hC ls H locs cells slots a b => lv_if_ge hC.1 hC.2.1 hd ht a b)
theorem x_if_gt {x : Int32} {off : Int} (tgt : Nat) (hd : decode M.1 pc = .ok (.ifCond .gt off, 3)) (ht : (pc : Int) + off = (tgt : Int)) (k1 : 0 < x → X G C M tgt lv st h) (k2 : ¬ (0 < x) → X G C M (pc + 3) lv st h) : X G C M pc lv (.int x :: st) h := X.step2 k1 k2 (fun hC ls H locs cells slots a b => lv_if_gt hC.1 hC.2.1 hd ht a b)
theorem x_if_le {x : Int32} {off : Int} (tgt : Nat) (hd : decode M.1 pc = .ok (.ifCond .le off, 3)) (ht : (pc : Int) + off = (tgt : Int)) (k1 : x ≤ 0 → X G C M tgt lv st h) (k2 : ¬ (x ≤ 0) → X G C M (pc + 3) lv st h) : X G C M pc lv (.int x :: st) h := X.step2 k1 k2 (fun hC ls H locs cells slots a b => lv_if_le hC.1 hC.2.1 hd ht a b)
theorem x_icmp_eq {x y : Int32} {off : Int} (tgt : Nat) (hd : decode M.1 pc = .ok (.if_icmp .eq off, 3)) (ht : (pc : Int) + off = (tgt : Int)) (k1 : x = y → X G C M tgt lv st h) (k2 : ¬ (x = y) → X G C M (pc + 3) lv st h) : X G C M pc lv (.int y :: .int x :: st) h := X.step2 k1 k2 (fun hC ls H locs cells slots a b => lv_icmp_eq hC.1 hC.2.1 hd ht a b)
theorem x_icmp_ne {x y : Int32} {off : Int} (tgt : Nat) (hd : decode M.1 pc = .ok (.if_icmp .ne off, 3)) (ht : (pc : Int) + off = (tgt : Int)) (k1 : ¬ (x = y) → X G C M tgt lv st h) (k2 : x = y → X G C M (pc + 3) lv st h) : X G C M pc lv (.int y :: .int x :: st) h := X.step2 k2 k1 (fun hC ls H locs cells slots b a => lv_icmp_ne hC.1 hC.2.1 hd ht a b)
theorem x_icmp_lt {x y : Int32} {off : Int} (tgt : Nat) (hd : decode M.1 pc = .ok (.if_icmp .lt off, 3)) (ht : (pc : Int) + off = (tgt : Int)) (k1 : x < y → X G C M tgt lv st h) (k2 : ¬ (x < y) → X G C M (pc + 3) lv st h) : X G C M pc lv (.int y :: .int x :: st) h := X.step2 k1 k2 (fun hC ls H locs cells slots a b => lv_icmp_lt hC.1 hC.2.1 hd ht a b)
theorem x_icmp_ge {x y : Int32} {off : Int} (tgt : Nat) (hd : decode M.1 pc = .ok (.if_icmp .ge off, 3)) (ht : (pc : Int) + off = (tgt : Int)) (k1 : y ≤ x → X G C M tgt lv st h) (k2 : ¬ (y ≤ x) → X G C M (pc + 3) lv st h) : X G C M pc lv (.int y :: .int x :: st) h := X.step2 k1 k2 (fun hC ls H locs cells slots a b => lv_icmp_ge hC.1 hC.2.1 hd ht a b)
theorem x_icmp_gt {x y : Int32} {off : Int} (tgt : Nat) (hd : decode M.1 pc = .ok (.if_icmp .gt off, 3)) (ht : (pc : Int) + off = (tgt : Int)) (k1 : y < x → X G C M tgt lv st h) (k2 : ¬ (y < x) → X G C M (pc + 3) lv st h) : X G C M pc lv (.int y :: .int x :: st) h := X.step2 k1 k2 (fun hC ls H locs cells slots a b => lv_icmp_gt hC.1 hC.2.1 hd ht a b)
theorem x_icmp_le {x y : Int32} {off : Int} (tgt : Nat) (hd : decode M.1 pc = .ok (.if_icmp .le off, 3)) (ht : (pc : Int) + off = (tgt : Int)) (k1 : x ≤ y → X G C M tgt lv st h) (k2 : ¬ (x ≤ y) → X G C M (pc + 3) lv st h) : X G C M pc lv (.int y :: .int x :: st) h := X.step2 k1 k2 (fun hC ls H locs cells slots a b => lv_icmp_le hC.1 hC.2.1 hd ht a b)
end XL
/-! heap rows -/
def xup (h : mH) (a : Nat) (c : mC) : mH := (fun q => if q = a then some c else h.1 q, h.2)
def xnw (h : mH) (c : mC) (n : Nat) : mH := (fun q => if q = h.2.1 then some c else h.1 q, h.2.1 + 1, h.2.2 + n)
def gC (h : mH) (r : Nat) : Nat := match h.1 r with
  | some (.inr (ci, _)) => ci
  | _ => 999
def gF (S : List Nat) (k : Nat) (h : mH) (r : Nat) : Option Value := match h.1 r with
  | some (.inr (ci, fs)) => if ci ∈ S then fs[k]? else none
  | _ => none
def gFi (S : List Nat) (k : Nat) (h : mH) (r : Nat) : Option Int32 := match gF S k h r with
  | some (.int x) => some x
  | _ => none
def gFl (S : List Nat) (k : Nat) (h : mH) (r : Nat) : Option Int64 := match gF S k h r with
  | some (.long x) => some x
  | _ => none
def gFr (S : List Nat) (k : Nat) (h : mH) (r : Nat) : Option Nat := match gF S k h r with
  | some (.ref x) => some x
  | _ => none
def pF (S : List Nat) (k : Nat) (v : Value) (h : mH) (r : Nat) : Option mH := match h.1 r with
  | some (.inr (ci, fs)) => if ci ∈ S ∧ 100 ≤ r ∧ k < fs.length then some (xup h r (.inr (ci, fs.set k v))) else none
  | _ => none
def xTyR : List FieldType := [.object "java/lang/Object", .object "StrangerMarket$Market", .object "StrangerMarket$Kept"]
def aI (ty : FieldType) (h : mH) (r : Nat) (i : Int32) : Option Int32 := match h.1 r with
  | some (.inl (t, n, .inl f)) => if t = ty ∧ 0 ≤ i ∧ i.toNatClampNeg < n then some (f i.toNatClampNeg) else none
  | _ => none
def aL (h : mH) (r : Nat) (i : Int32) : Option Int64 := match h.1 r with
  | some (.inl (t, n, .inr (.inl f))) => if t = .long ∧ 0 ≤ i ∧ i.toNatClampNeg < n then some (f i.toNatClampNeg) else none
  | _ => none
def aR (h : mH) (r : Nat) (i : Int32) : Option Nat := match h.1 r with
  | some (.inl (t, n, .inr (.inr f))) => if t ∈ xTyR ∧ 0 ≤ i ∧ i.toNatClampNeg < n then some (f i.toNatClampNeg) else none
  | _ => none
def aN (h : mH) (r : Nat) : Option Int32 := match h.1 r with
  | some (.inl (t, n, _)) => if t ∈ xTy then some (Int32.ofNat n) else none
  | _ => none
def sI (ty : FieldType) (h : mH) (r : Nat) (i x : Int32) : Option mH := match h.1 r with
  | some (.inl (t, n, .inl f)) => if t = ty ∧ 0 ≤ i ∧ i.toNatClampNeg < n ∧ 100 ≤ r then some (xup h r (.inl (t, n, .inl (upd f i.toNatClampNeg (vp_nar ty x))))) else none
  | _ => none
def sL (h : mH) (r : Nat) (i : Int32) (x : Int64) : Option mH := match h.1 r with
  | some (.inl (t, n, .inr (.inl f))) => if t = .long ∧ 0 ≤ i ∧ i.toNatClampNeg < n ∧ 100 ≤ r then some (xup h r (.inl (t, n, .inr (.inl (vp_updL f i.toNatClampNeg x))))) else none
  | _ => none
def nA (ty : FieldType) (h : mH) (n : Int32) : Option (Nat × mH) := if 0 ≤ n ∧ n.toNatClampNeg ≤ 100000 then some (h.2.1, xnw h (.inl (ty, n.toNatClampNeg, if ty = .long then .inr (.inl (fun _ => 0)) else .inl (fun _ => 0))) n.toNatClampNeg) else none
def nR (E : String) (h : mH) (n : Int32) : Option (Nat × mH) := if 0 ≤ n ∧ n.toNatClampNeg ≤ 100000 then some (h.2.1, xnw h (.inl (.object E, n.toNatClampNeg, .inr (.inr (fun _ => 0)))) n.toNatClampNeg) else none
def xCI (ci : Nat) (C : String) (T : u_T) (N : Nat) (ty : Nat → FieldType) : Prop := xCl[ci]? = some (C, T, N) ∧ (∀ w ∈ u_ws C T N, w ∈ lw_all) ∧ (∀ k, k < N → parseFieldDescriptor (T k).2.2.1 = some (ty k)) ∧ ∀ a, a < N → ∀ b, b < N → a ≠ b → (T a).2.1 ≠ (T b).2.1
/-- the field row ix of the class own is the field k of the objects of the classes S -/
def xFd (own : String) (ix : Nat) (S : List Nat) (k : Nat) : Prop := ∀ ci ∈ S, ∃ (D : String) (T : u_T) (N : Nat) (ty : Nat → FieldType) (ref : String), xCI ci D T N ty ∧ k < N ∧ (ref = (T k).1 ∨ Cond.sameField ref (T k).1 (T k).2.1 (T k).2.2.1 ∈ lw_all) ∧ (Cond.fieldLink own ix ref (T k).2.1 (T k).2.2.1 ∈ lw_all ∨ ∃ host : String, Cond.fieldLinkNest own ix ref (T k).2.1 (T k).2.2.1 host ∈ lw_tbl)
/-- .. and may be written with a value of the type ty -/
def xPd (own : String) (ix : Nat) (S : List Nat) (k : Nat) (t : FieldType) (nm : String) : Prop := ∀ ci ∈ S, ∃ (D : String) (T : u_T) (N : Nat) (ty : Nat → FieldType) (ref : String), xCI ci D T N ty ∧ k < N ∧ (ref = (T k).1 ∨ Cond.sameField ref (T k).1 (T k).2.1 (T k).2.2.1 ∈ lw_all) ∧ parseFieldDescriptor (T k).2.2.1 = some t ∧ ((((T k).2.2.2 = false ∨ ((T k).2.2.2 = true ∧ (T k).1 = own ∧ nm = "<init>")) ∧ Cond.fieldLink own ix ref (T k).2.1 (T k).2.2.1 ∈ lw_all) ∨ ((T k).2.2.2 = false ∧ ∃ host : String, Cond.fieldLinkNest own ix ref (T k).2.1 (T k).2.2.1 host ∈ lw_tbl))
section XH
variable {G : xG} {C : xC} {M : xM} {pc : Nat} {lv : List (Nat × Value)} {st : List Value} {h : mH}
theorem X.stepR {pc' : Nat} {st' : List Value} (kk : X G C M pc' lv st' h) (f : xOK G C M → ∀ (ls : Array Slot) (H : Heap) (locs : List Loc) (cells slots : Nat), lv_has ls M.2.2.1 (xrl G lv) → xHR G h H → xW C H locs cells slots (F0 C.2.1.2.1 pc' ls (st'.map (xrv G))) → xW C H locs cells slots (F0 C.2.1.2.1 pc ls (st.map (xrv G)))) : X G C M pc lv st h :=
  ⟨kk.1, fun hC h1 h2 ls H locs hl hR hq => f hC ls H locs _ _ hl hR (kk.2 hC h1 h2 ls H locs hl hR hq)⟩
/-- a step that writes old cells -/
theorem X.stepW {pc' : Nat} {st' : List Value} {h' : mH} (kk : X G C M pc' lv st' h') (e : h'.2 = h.2) (f : xOK G C M → ∀ (ls : Array Slot) (H : Heap) (locs : List Loc) (cells slots : Nat), xHR G h H → (∀ q ∈ locs, G.1 ≤ q.base) → (∀ (H1 : Heap) (locs1 : List Loc), xHR G h' H1 → (∀ q ∈ locs1, G.1 ≤ q.base) → xW C H1 locs1 cells slots (F0 C.2.1.2.1 pc' ls (st'.map (xrv G)))) → xW C H locs cells slots (F0 C.2.1.2.1 pc ls (st.map (xrv G)))) : X G C M pc lv st h := by
  obtain ⟨k1, k2⟩ := kk
  rw [e] at k1 k2
  exact ⟨k1, fun hC h1 h2 ls H locs hl hR hq => f hC ls H locs _ _ hR hq (fun H1 locs1 hR1 hq1 => k2 hC h1 h2 ls H1 locs1 hl hR1 hq1)⟩
/-- a step that makes one cell of n slots -/
theorem X.stepN {pc' n : Nat} {st' : List Value} {c : mC} (kk : X G C M pc' lv st' (xnw h c n)) (f : xOK G C M → ∀ (ls : Array Slot) (H : Heap) (locs : List Loc) (cells slots : Nat), xHR G h H → cells + 1 ≤ C.1.2.2.2.cells → slots + n ≤ C.1.2.2.2.slots → (∀ (H1 : Heap), xHR G (xnw h c n) H1 → xW C H1 locs (cells + 1) (slots + n) (F0 C.2.1.2.1 pc' ls (st'.map (xrv G)))) → xW C H locs cells slots (F0 C.2.1.2.1 pc ls (st.map (xrv G)))) : X G C M pc lv st h := by
  obtain ⟨⟨b1, b2⟩, k⟩ := kk
  have b1 : h.2.1 + 1 ≤ C.2.2.2.2.1 := b1
  have b2 : h.2.2 + n ≤ C.2.2.2.2.2 := b2
  refine ⟨⟨Nat.le_of_succ_le b1, Nat.le_trans (Nat.le_add_right _ _) b2⟩, fun hC h1 h2 ls H locs hl hR hq => ?_⟩
  obtain ⟨-, -, -, -, -, -, -, -, -, -, -, -, hc, hs, -⟩ := id hC
  refine f hC ls H locs _ _ hR (by omega) (by omega) (fun H1 hR1 => ?_)
  have k9 := k hC (Nat.le_trans h1 (Nat.le_succ _)) (Nat.le_trans h2 (Nat.le_add_right _ _)) ls H1 locs hl hR1 hq
  have e1 : (xnw h c n).2.1 - C.2.2.2.1.1 = h.2.1 - C.2.2.2.1.1 + 1 := by show h.2.1 + 1 - _ = _; omega
  have e2 : (xnw h c n).2.2 - C.2.2.2.1.2 = h.2.2 - C.2.2.2.1.2 + n := by show h.2.2 + n - _ = _; omega
  rw [e1, e2] at k9
  exact k9
theorem xro_hi {r : Nat} (hr : 6 ≤ r) : xro G r = some (xmu G r) := by
  unfold xro
  rw [if_neg (by omega), if_neg (by omega)]
theorem xrv_hi {r : Nat} (hr : 6 ≤ r) : xrv G (.ref r) = .ref (xmu G r) := by
  show va_rf (xro G r) = _
  rw [xro_hi hr]
  rfl
theorem xP1 {D : va_G} {cl : List vw_C} {a : Nat} {e : va_E} {H : Heap} (h : va_at D cl (a, e) H) : va_P D cl [(a, e)] H := by
  intro k q hq
  have hz : k < 1 := (List.getElem?_eq_some_iff.mp hq).1
  rw [show k = 0 by omega] at hq
  cases hq
  exact h
theorem gF_spec {S : List Nat} {k r : Nat} {v : Value} (hv : gF S k h r = some v) : ∃ (ci : Nat) (fs : List Value), h.1 r = some (.inr (ci, fs)) ∧ ci ∈ S ∧ fs[k]? = some v := by
  unfold gF at hv
  split at hv
  · rename_i ci fs h1
    split at hv
    · rename_i h2
      exact ⟨ci, fs, h1, h2, hv⟩
    · cases hv
  · cases hv
theorem xOut_mu {U : State} (hO : xOut G U) {r : Nat} (h3 : 6 ≤ r) (hr : r < 100) : xmu G r < G.1 := by
  unfold xmu
  rw [if_pos (show r < xK from hr)]
  exact hO.2.1 r h3 hr
theorem xmu_own {r : Nat} (hr : 100 ≤ r) : xmu G r = G.1 + (r - 100) := by
  unfold xmu
  rw [if_neg (by unfold xK; omega)]
  rfl
theorem xmu_inj {U : State} (hO : xOut G U) {a b : Nat} (ha : 100 ≤ a) (hb : 6 ≤ b) (e : xmu G b = xmu G a) : b = a := by
  by_cases h1 : b < 100
  · have h2 := xOut_mu hO hb h1
    rw [e, xmu_own ha] at h2
    omega
  · rw [xmu_own ha, xmu_own (by omega)] at e
    omega
/-- an object of the mini heap, own or outside, by its fields -/
theorem x_objc {U : State} {H : Heap} (hW : xWD G U) (hR : xHR G h H) {r ci : Nat} {fs : List Value} (h1 : h.1 r = some (.inr (ci, fs))) : 6 ≤ r ∧ ∃ (q : vw_C) (cell : Cell), xCl[ci]? = some q ∧ H[xmu G r]? = some cell ∧ cell.vm.isStatics = false ∧ cell.vm ≠ .unknown ∧ cell.cls = G.2.2.2.1.1 ci ∧ ∀ k : Nat, k < q.2.2 → cell.slots[G.2.2.2.1.2 ci k]? = some (vp_V (fs.map (xrv G)) k) := by
  obtain ⟨a1, a2, a3⟩ := hR.2.2.2 r _ h1
  refine ⟨a1, ?_⟩
  rcases a3 with ⟨b1, b2⟩ | ⟨b1, b2⟩
  · have b1 : r < 100 := b1
    obtain ⟨q, cell, c1, c2, c3⟩ := hW.2.2.2.2.2.2.2.2.2.2.2.2.2.2 r ci fs a1 b1 b2
    have e : xmu G r = G.2.1 r := by unfold xmu; rw [if_pos (show r < xK from b1)]
    refine ⟨q, cell, c1, ?_, c3⟩
    rw [e, hR.2.2.1 _ (hW.2.2.2.2.2.2.1 r a1 b1)]
    exact c2
  · obtain ⟨q, c1, cell, c2, c3, c4, c5⟩ := b2
    exact ⟨q, cell, c1, c2, (by rw [c4]; rfl), (by rw [c4]; simp), c3, c5⟩
/-- a getfield -/
theorem x_getf {S : List Nat} {k ix r : Nat} {v : Value} (hF : xFd M.2.1.cls ix S k) (hv : gF S k h r = some v) (hd : decode M.1 pc = .ok (.getfield ix, 3)) (kk : X G C M (pc + 3) lv (v :: st) h) : X G C M pc lv (.ref r :: st) h := X.stepR kk (fun hC ls H locs cells slots hl hR kw => by
  obtain ⟨ci, fs, h1, h2, h3⟩ := gF_spec hv
  obtain ⟨D, T, N, ty, ref, ⟨c1, c2, -, -⟩, hk, hs, hw⟩ := hF ci h2
  have hWD := hC.2.2.2.2.2.2.2.2.1
  have hts := hC.2.2.2.2.1
  obtain ⟨a1, q, cell, g1, g2, g3, g4, g5, g6⟩ := x_objc hWD hR h1
  have hr : q = (D, T, N) := Option.some.inj (g1.symm.trans c1)
  subst hr
  obtain ⟨hS, hfc, kC, hkC, hkind⟩ := hWD.1.1 ci _ c1
  obtain ⟨cf, kf, fi, f, hi, hsl⟩ := hS k hk
  have hst := (u_facts hfc hkC (u_lays hts c2 hk) hi).1
  have e1 : vp_V (fs.map (xrv G)) k = xrv G v := by
    show (fs.map (xrv G)).getD k .null = _
    rw [List.getD_eq_getElem?_getD, List.getElem?_map, h3]
    rfl
  have e2 : cell.slots[f.slot]? = some (xrv G v) := by rw [hsl, ← e1]; exact g6 k hk
  have hsame : ∀ x, C.2.1.1.fieldFound? (T k).1 (T k).2.1 (T k).2.2.1 = some x → C.2.1.1.fieldFound? ref (T k).2.1 (T k).2.2.1 = some x := by
    intro x hx
    rcases hs with e | e
    · rw [e]; exact hx
    · exact u_same (hts _ e) x hx
  show xW C H locs cells slots (F0 C.2.1.2.1 pc ls (xrv G (.ref r) :: st.map (xrv G)))
  rw [xrv_hi a1]
  rcases hw with hw | ⟨host, hw⟩
  · exact W.getf hC.1 hC.2.1 hC.2.2.1 (hts _ hw) (hsame _ hi) hst g2 g4 e2 rfl rfl hd kw
  · exact va_Wgetf hC.1 hC.2.1 hC.2.2.1 (va_Nw.use rfl (hWD.2.1 _ hw rfl)) (hsame _ hi) hst g2 g4 e2 rfl rfl hd kw)
theorem gFi_spec {S : List Nat} {k r : Nat} {x : Int32} (hv : gFi S k h r = some x) : gF S k h r = some (.int x) := by
  unfold gFi at hv
  split at hv
  · cases hv; assumption
  · cases hv
theorem gFl_spec {S : List Nat} {k r : Nat} {x : Int64} (hv : gFl S k h r = some x) : gF S k h r = some (.long x) := by
  unfold gFl at hv
  split at hv
  · cases hv; assumption
  · cases hv
theorem gFr_spec {S : List Nat} {k r : Nat} {x : Nat} (hv : gFr S k h r = some x) : gF S k h r = some (.ref x) := by
  unfold gFr at hv
  split at hv
  · cases hv; assumption
  · cases hv
/-- the heap behind a write to an own cell -/
theorem xAt.own {a : Nat} {c : mC} {H : Heap} (ha : 100 ≤ a) (h : va_at G.2.2.2.1 xCl (xmu G a, xrc G c) H) : xAt G a c H := Or.inr ⟨ha, h⟩
theorem xAt.at {a : Nat} {c : mC} {H : Heap} (ha : 100 ≤ a) (h : xAt G a c H) : va_at G.2.2.2.1 xCl (xmu G a, xrc G c) H := by
  rcases h with h | h
  · have h9 : a < 100 := h.1
    omega
  · exact h.2
theorem xAt.kept {a : Nat} {c : mC} {H H1 : Heap} (h : xAt G a c H) (e : H1[xmu G a]? = H[xmu G a]?) : xAt G a c H1 := by
  rcases h with h | h
  · exact Or.inl h
  · exact Or.inr ⟨h.1, va_at.kept h.2 e⟩
theorem xHR.put {H H1 : Heap} {U : State} (hO : xOut G U) (hR : xHR G h H) {r : Nat} {c : mC} (hr : 100 ≤ r) (hrn : r < h.2.1) (e1 : va_at G.2.2.2.1 xCl (xmu G r, xrc G c) H1) (e2 : H1.size = H.size) (e3 : ∀ q : Nat, q ≠ xmu G r → H1[q]? = H[q]?) : xHR G (xup h r c) H1 := by
  obtain ⟨g1, g2, g3, g4⟩ := hR
  refine ⟨g1, e2.trans g2, fun q hq => (e3 q (by rw [xmu_own hr]; omega)).trans (g3 q hq), fun a c' ha => ?_⟩
  have ha : (if a = r then some c else h.1 a) = some c' := ha
  split at ha
  · rename_i e
    cases ha
    rw [e]
    exact ⟨by omega, hrn, xAt.own hr e1⟩
  · rename_i e
    obtain ⟨b1, b2, b3⟩ := g4 a c' ha
    exact ⟨b1, b2, b3.kept (e3 (xmu G a) (fun e9 => e (xmu_inj hO hr b1 e9)))⟩
/-- .. behind a new cell -/
theorem xHR.new {H H1 : Heap} {U : State} (hO : xOut G U) (hR : xHR G h H) {c : mC} {n : Nat} (e1 : va_at G.2.2.2.1 xCl (H.size, xrc G c) H1) (e2 : H1.size = H.size + 1) (e3 : ∀ q : Nat, q < H.size → H1[q]? = H[q]?) : xHR G (xnw h c n) H1 := by
  obtain ⟨g1, g2, g3, g4⟩ := hR
  have g1 : 100 ≤ h.2.1 := g1
  have g2 : H.size = G.1 + (h.2.1 - 100) := g2
  have hz : xmu G h.2.1 = H.size := by rw [xmu_own g1, g2]
  refine ⟨Nat.le_succ_of_le g1, ?_, fun q hq => (e3 q (by omega)).trans (g3 q hq), fun a c' ha => ?_⟩
  · show H1.size = G.1 + (h.2.1 + 1 - 100)
    omega
  · have ha : (if a = h.2.1 then some c else h.1 a) = some c' := ha
    show 6 ≤ a ∧ a < h.2.1 + 1 ∧ _
    split at ha
    · rename_i e
      cases ha
      rw [e]
      exact ⟨by omega, by omega, xAt.own g1 (by rw [hz]; exact e1)⟩
    · obtain ⟨b1, b2, b3⟩ := g4 a c' ha
      refine ⟨b1, by omega, b3.kept (e3 (xmu G a) ?_)⟩
      by_cases h9 : a < 100
      · have := xOut_mu hO b1 h9
        omega
      · rw [xmu_own (by omega)]
        omega
theorem xmu_lt {U : State} {H : Heap} (hO : xOut G U) (hR : xHR G h H) {a : Nat} (h6 : 6 ≤ a) (hn : a < h.2.1) : xmu G a < H.size := by
  have g2 : H.size = G.1 + (h.2.1 - 100) := hR.2.1
  by_cases h9 : a < 100
  · have := xOut_mu hO h6 h9
    omega
  · rw [xmu_own (by omega)]
    omega
end XH
