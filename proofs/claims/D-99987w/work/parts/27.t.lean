/-! the String constants at the start -/
abbrev sQ : Type := String × Nat × String × Nat
def st_tm (q : sQ) : Term := .string q.1 q.2.1
def st_va (q : sQ) : Term := .field (st_tm q) "java/lang/String" "value" "[B"
def st_by (q : sQ) : List Int32 := q.2.2.1.toList.map (fun c => Int32.ofNat c.toNat)
def st_ws (q : sQ) : List Cond := .exactly (st_tm q) "java/lang/String" :: .eq (.field (st_tm q) "java/lang/String" "coder" "B") (.int 0) :: .arrayOf (st_va q) .byte :: .eq (.length (st_va q)) (.int (Int32.ofNat (st_by q).length)) :: (List.range (st_by q).length).map (fun j => .eq (.elem (st_va q) (.int (Int32.ofNat j))) (.int ((st_by q).getD j 0)))
set_option maxRecDepth 100000 in
set_option maxHeartbeats 4000000 in
theorem st_ok : (xStr.all fun q => (st_ws q).all fun w => decide (w ∈ flat (Jvm.Cond.and given_1 narrow_1))) = true := by decide +kernel
/-- a String constant: its cell, its bytes' cell -/
def st_S (q : sQ) (a v : Nat) (A : Array Value) (s : State) : Prop := (st_tm q).eval A s none [] s = some (.ref a) ∧ (∃ (cell : Cell), s.heap[a]? = some cell ∧ cell.vm.isStatics = false ∧ s.vm.findClass "java/lang/String" = some cell.cls) ∧ va_OF "java/lang/String" "coder" "B" (.int 0) a (fun a => s.heap.size ≤ a) s s.heap ∧ va_OF "java/lang/String" "value" "[B" (.ref v) a (fun a => s.heap.size ≤ a) s s.heap ∧ va_T .byte v (st_by q).length (fun j => .int ((st_by q).getD j 0)) (fun a => s.heap.size ≤ a) s s.heap
theorem st_str {A : Array Value} {s : State} (h : (Jvm.Cond.and given_1 narrow_1).before A s = true) (q : sQ) (hq : q ∈ xStr) : ∃ a v : Nat, st_S q a v A s := by
  have hf := flat_of_before _ h
  have hw : ∀ w ∈ st_ws q, w.before A s = true := fun w hw => hf w (of_decide_eq_true (List.all_eq_true.mp (List.all_eq_true.mp st_ok q hq) w hw))
  have hA : ∀ a : Nat, a < s.heap.size → ¬ (s.heap.size ≤ a) := fun a ha => by omega
  have hN : (st_by q).length < 2 ^ 31 := by
    have : (xStr.all fun q => decide ((st_by q).length < 2 ^ 31)) = true := by decide +kernel
    exact of_decide_eq_true (List.all_eq_true.mp this q hq)
  have hex := hw _ List.mem_cons_self
  have hco := hw _ (List.mem_cons_of_mem _ List.mem_cons_self)
  have har := hw _ (List.mem_cons_of_mem _ (List.mem_cons_of_mem _ List.mem_cons_self))
  have hle := hw _ (List.mem_cons_of_mem _ (List.mem_cons_of_mem _ (List.mem_cons_of_mem _ List.mem_cons_self)))
  have hel : ∀ j : Nat, j < (st_by q).length → (Cond.eq (.elem (st_va q) (.int (Int32.ofNat j))) (.int ((st_by q).getD j 0))).before A s = true := fun j hj =>
    hw _ (List.mem_cons_of_mem _ (List.mem_cons_of_mem _ (List.mem_cons_of_mem _ (List.mem_cons_of_mem _ (List.mem_map.mpr ⟨j, List.mem_range.mpr hj, rfl⟩)))))
  obtain ⟨a, c, cA, kA, q1, q2, q3, q4, q5, q6, -⟩ := Cond.exactly_spec (args := A) (first := s) (o := none) (s := s) (idx := []) (t := st_tm q) (cls := "java/lang/String") hex
  obtain ⟨t, ht, hT⟩ := va_Tof (f := fun j => .int ((st_by q).getD j 0)) (A := fun a => s.heap.size ≤ a) hN har (va_eqt hle) (fun j hj => va_eqt (hel j hj)) hA
  exact ⟨a, t, q1, ⟨cA, q3, q5, by rw [q6]; exact q2⟩, vk_OFof q1 (va_eqt hco) hA, vk_OFof q1 ht hA, hT⟩
/-! the array classes at the start -/
theorem st_prim {A : Array Value} {s : State} {t : FieldType} (h : (Cond.arrayClass t).before A s = true) : ∃ cA : ClassId, ArrOfT s cA t ∧ s.vm.findClass ("[" ++ t.toString) = some cA := by
  obtain ⟨c, k, comp, h1, h2, h3⟩ := Cond.arrayClass_spec h
  exact ⟨c, fun N z => ⟨(fun k h => by cases h), k, h2, comp, h3⟩, h1⟩
theorem st_obj {A : Array Value} {s : State} {C : String} (h : (Cond.arrayOver (.object C)).before A s = true) : ∃ cA : ClassId, ArrOfT s cA (.object C) ∧ va_RA s cA (.object C) := by
  obtain ⟨comp, c, k, h1, -, h3, h4, h5⟩ := Cond.arrayOver_spec h
  exact ⟨c, fun N z => ⟨(fun k h => by cases h), k, h3, comp, h4⟩, k, comp, h3, h4, h1, h5⟩
theorem st_arr {A : Array Value} {s : State} (ht : ∀ w ∈ lw_tbl, w.before A s = true) : ∃ cA : FieldType → ClassId, ∀ t ∈ xTy, ArrOfT s (cA t) t ∧ va_RA s (cA t) t := by
  have h0 : ∀ t : FieldType, ∃ c : ClassId, t ∈ xTy → ArrOfT s c t ∧ va_RA s c t := by
    intro t
    by_cases hm : t ∈ xTy
    · have : ∃ c : ClassId, ArrOfT s c t ∧ va_RA s c t := by
        simp only [xTy, List.mem_cons, List.not_mem_nil, or_false] at hm
        rcases hm with rfl | rfl | rfl | rfl | rfl | rfl | rfl
        · exact st_prim (ht _ (by decide +kernel))
        · exact st_prim (ht _ (by decide +kernel))
        · exact st_prim (ht _ (by decide +kernel))
        · exact st_prim (ht _ (by decide +kernel))
        · exact st_obj (ht _ (by decide +kernel))
        · exact st_obj (ht _ (by decide +kernel))
        · exact st_obj (ht _ (by decide +kernel))
      obtain ⟨c, hc⟩ := this
      exact ⟨c, fun _ => hc⟩
    · exact ⟨0, fun h => absurd h hm⟩
  exact Classical.axiomOfChoice h0
/-! the start's mini heap: 6 the empty Object[], 8.. the Strings, 48.. their bytes, 90 the script -/
def st_C (L : Nat) (xs : Nat → Int32) (a : Nat) : Option mC :=
  if a = 6 then some (.inl (.object "java/lang/Object", 0, .inr (.inr (fun _ => 0))))
  else if a = 90 then some (.inl (.int, L, .inl xs))
  else if 8 ≤ a ∧ a < 43 then some (.inr (23, [.ref (a + 40), .int 0]))
  else if 48 ≤ a ∧ a < 83 then (xStr[a - 48]?).map (fun q => .inl (.byte, (st_by q).length, .inl (fun j => (st_by q).getD j 0)))
  else none
def st_h (L : Nat) (xs : Nat → Int32) : mH := (st_C L xs, 100, 0)
/-- a private method of a class above: chosen, where some other word says that the class above is no interface -/
theorem st_sel {C : String} {y z z' : MethodName} {s : State} {args : Array Value} (hy : y.cls ≠ "java/lang/invoke/MethodHandle" ∧ y.cls ≠ "java/lang/invoke/VarHandle") (hC : (Cond.selects C z' z).before args s = true) (hz : z.cls = y.cls) (hpriv : (Cond.privateMethod y).before args s = true) (hinst : (Cond.instanceMethod y).before args s = true) : (Cond.selects C y y).before args s = true := by
  obtain ⟨c, r, m, h1, -, h3, -, mk, h5, h6⟩ := Cond.selects_spec hC
  obtain ⟨mY, methM, hnamed, hmethM, -, -⟩ := Cond.instanceMethod_spec hinst
  have hfound : s.methodFound? y.cls y.name y.desc = some mY := State.methodFound?_of_named hnamed hy
  have hcls : mY.cls = m.cls := Option.some.inj ((findClass_of_methodNamed hnamed).symm.trans (by rw [← hz]; exact findClass_of_methodNamed h3))
  have hsel : selectMethod {} s.vm c mY = .method mY := selectMethod_private hmethM (Cond.privateMethod_at hpriv mY methM hnamed hmethM)
  simp only [Cond.before, Cond.holds, Cond.value, h1, hfound, hnamed, hsel, hcls, h5]
  simp; exact h6
def st_G (s : State) (b f6 f7 : Nat) (ad : Nat → Nat × Nat) (op : Nat → Option Nat) (dC : Nat → ClassId) (dI : Nat → Nat → Nat) (cA : FieldType → ClassId) (L : Nat) (xs : Nat → Int32) : xG := (s.heap.size, fun a => if a = 6 then f6 else if a = 7 then f7 else if 8 ≤ a ∧ a < 43 then (ad (a - 8)).1 else if 48 ≤ a ∧ a < 83 then (ad (a - 48)).2 else b, (op, st_C L xs), (dC, dI), cA, s.heap)
theorem st_nxR {C : String} {A : Array Value} {s : State} (ht : ∀ w ∈ lw_tbl, w.before A s = true) (hC : Cond.selects C ⟨"StrangerMarket$Reader", "hold", "(Ljava/util/ArrayList;)I"⟩ ⟨"StrangerMarket$Reader", "hold", "(Ljava/util/ArrayList;)I"⟩ ∈ lw_tbl) : va_Nw (.selects C ⟨"StrangerMarket$Reader", "byteAt", "(I)I"⟩ ⟨"StrangerMarket$Reader", "byteAt", "(I)I"⟩) s :=
  va_Nw.of rfl (st_sel ⟨by decide +kernel, by decide +kernel⟩ (ht _ hC) rfl (ht _ (by decide +kernel)) (ht _ (by decide +kernel)))
theorem st_nxB {y : MethodName} {A : Array Value} {s : State} (ht : ∀ w ∈ lw_tbl, w.before A s = true) (hy : y.cls = "java/lang/AbstractStringBuilder") (h1 : Cond.privateMethod y ∈ lw_tbl) (h2 : Cond.instanceMethod y ∈ lw_tbl) : va_Nw (.selects "java/lang/StringBuilder" y y) s :=
  va_Nw.of rfl (st_sel (z := ⟨"java/lang/AbstractStringBuilder", "isLatin1", "()Z"⟩) (z' := ⟨"java/lang/AbstractStringBuilder", "isLatin1", "()Z"⟩) ⟨by rw [hy]; decide +kernel, by rw [hy]; decide +kernel⟩ (ht _ (by decide +kernel)) hy.symm (ht _ h1) (ht _ h2))
theorem st_nx {A : Array Value} {s : State} (ht : ∀ w ∈ lw_tbl, w.before A s = true) : ∀ w ∈ xNx, va_Nw w s := by
  intro w hw
  simp only [xNx, List.mem_cons, List.not_mem_nil, or_false] at hw
  rcases hw with rfl | rfl | rfl | rfl | rfl | rfl | rfl
  · exact st_nxR ht (by decide +kernel)
  · exact st_nxR ht (by decide +kernel)
  · exact st_nxR ht (by decide +kernel)
  · exact st_nxB ht rfl (by decide +kernel) (by decide +kernel)
  · exact st_nxB ht rfl (by decide +kernel) (by decide +kernel)
  · exact st_nxB ht rfl (by decide +kernel) (by decide +kernel)
  · exact st_nxB ht rfl (by decide +kernel) (by decide +kernel)
/-- the opaque statics -/
theorem st_opq {A : Array Value} {s : State} (ht : ∀ w ∈ lw_tbl, w.before A s = true) {C n d : String} (h1 : Cond.laysStatic C n d ∈ lw_tbl) (h2 : Cond.initialized C ∈ lw_tbl) (h3 : (Cond.isRef (.static C n d)).before A s = true) : ∃ o : Option Nat, va_Z C n d (va_rf o) (fun a => s.heap.size ≤ a) s s.heap ∧ vx_L C n d (fun a => s.heap.size ≤ a) s s.heap := by
  obtain ⟨h4, h5⟩ := vx_Zqof (A := fun a => s.heap.size ≤ a) (ht _ h1) (ht _ h2) h3 (fun a ha => by omega)
  rcases h4 with h | ⟨t, h⟩
  · exact ⟨none, h, h5⟩
  · exact ⟨some t, h, h5⟩
