section XW2
variable {G : xG}
theorem xNw_tab {w : Cond} (h : xNwB w = true) : w.onTables = true := by
  cases w <;> first | rfl | (cases h; done)
theorem xOut.same {u U : State} (hvm : u.vm = U.vm) (h : xOut G u) : xOut G U := by
  obtain ⟨h1, h2, h3, h4, h5, h6, h7, h8, h9, h10⟩ := h
  have ha : u.vm.Alike U.vm := by rw [hvm]; exact Vm.Alike.refl _
  refine ⟨h1, h2, fun q hq => vk_R.same hvm.symm (h3 q hq), fun q hq => va_Z.moved ha (h4 q hq), fun w hw => ?_, h6.imp (fun mi z => ⟨z.1, va_Mi.moved ha z.2⟩), vx_L.moved ha h7, vx_L.moved ha h8, fun a ty n x b1 b2 b3 => ?_, h10⟩
  rotate_left
  · obtain ⟨cell, c1, c2, c3⟩ := h9 a ty n x b1 b2 b3
    exact ⟨cell, c1, State.isArrayOf_alike ha c2, c3⟩
  have hb : w.onTables = true := by
    simp only [xNx, List.mem_cons, List.not_mem_nil, or_false] at hw
    rcases hw with e | e | e | e | e | e | e <;> rw [e] <;> rfl
  exact va_Nw.same hb hvm (h5 w hw)
theorem xOut.warm {s U : State} (hW : s.WarmedH U.vm) (h : xOut G s) : xOut G U := by
  obtain ⟨h1, h2, h3, h4, h5, h6, h7, h8, h9, h10⟩ := h
  refine ⟨h1, h2, fun q hq => vk_R.warm hW (h3 q hq), fun q hq => va_Z.moved hW.alike (h4 q hq), fun w hw => ?_, h6.imp (fun mi z => ⟨z.1, va_Mi.moved hW.alike z.2⟩), vx_L.moved hW.alike h7, vx_L.moved hW.alike h8, fun a ty n x b1 b2 b3 => ?_, h10⟩
  rotate_left
  · obtain ⟨cell, c1, c2, c3⟩ := h9 a ty n x b1 b2 b3
    exact ⟨cell, c1, State.isArrayOf_alike hW.alike c2, c3⟩
  have hb : (w.onTables && w.keeps) = true := by
    simp only [xNx, List.mem_cons, List.not_mem_nil, or_false] at hw
    rcases hw with e | e | e | e | e | e | e <;> rw [e] <;> rfl
  exact word_at hW (Or.inl hb) (h5 w hw)
theorem xWD.same {u U : State} (hvm : u.vm = U.vm) (h : xWD G u) : xWD G U := by
  obtain ⟨h1, h2, h3, h4, h5, h6⟩ := h
  have ha : u.vm.Alike U.vm := by rw [hvm]; exact Vm.Alike.refl _
  exact ⟨va_K.moved ha h1, fun w hw hb => va_Nw.same (xNw_tab hb) hvm (h2 w hw hb), va_AO.moved ha h3, va_AO.moved ha h4, va_AO.moved ha h5, h6.same hvm⟩
theorem xNw_warm {w : Cond} {s U : State} (hW : s.WarmedH U.vm) (hb : xNwB w = true) (h : va_Nw w s) : va_Nw w U := by
  cases w <;> first | (cases hb; done) | exact va_Nw.warmF hW h | exact va_Nw.warmM hW h | exact va_Nw.warmC hW h | exact va_Nw.warmD hW h
theorem xWD.warm {s U : State} (hW : s.WarmedH U.vm) (h : xWD G s) : xWD G U := by
  obtain ⟨h1, h2, h3, h4, h5, h6⟩ := h
  exact ⟨va_K.moved hW.alike h1, fun w hw hb => xNw_warm hW hb (h2 w hw hb), va_AO.moved hW.alike h3, va_AO.moved hW.alike h4, va_AO.moved hW.alike h5, h6.warm hW⟩
def xPc (G : xG) (av : List Value) (h : mH) : Array Value → State → Prop := va_Pc (av.map (xrv G)) (fun U => xWD G U ∧ xHR G h U.heap)
def xQc (G : xG) (r : Option Value) (h' : mH) : Array Value → State → Outcome → State → Prop := fun _ _ o t => o = .returned (r.map (xrv G)) ∧ xHR G h' t.heap
def xFr (G : xG) : Nat → Prop := fun q => G.1 ≤ q
def xRm (D : Nat) (h h' : mH) : Room := { frames := D, cells := h'.2.1 - h.2.1, slots := h'.2.2 - h.2.2, locals := 64 * D }
/-- THE CONTRACT of one call: the method M, called with av in the mini heap h, answers r and leaves h' -/
def XR (G : xG) (l : Launch) (M : xM) (av : List Value) (h : mH) (r : Option Value) (h' : mH) : Prop := (h.2.1 ≤ h'.2.1 ∧ h.2.2 ≤ h'.2.2) ∧ (l.stackTraces = false → Met l M.2.1 (ws_ M.2.1 M.1 M.2.2.1 M.2.2.2.1) (xRm M.2.2.2.2 h h') (xPc G av h) (xQc G r h') (h'.2.1 - h.2.1) (h'.2.2 - h.2.2) (xFr G))
theorem xPc_blind (av : List Value) (h : mH) : FrameBlind (xPc G av h) := by
  intro a U g mk hp
  obtain ⟨e, hw, hr⟩ := hp
  exact ⟨e, xWD.same (u := U) (U := U.calling g mk a) rfl hw, hr⟩
theorem xPc_at {C : xC} {M : xM} (hC : xOK G C M) {H : Heap} {h : mH} (hR : xHR G h H) (av : List Value) : ∀ U : State, U.heap = H → C.2.1.1.WarmedH U.vm → xPc G av h (av.map (xrv G)).toArray U := fun U hU hW => ⟨rfl, hC.2.2.2.2.2.2.2.2.1.warm hW, by rw [hU]; exact hR⟩
/-- how the walk ends -/
def xEnd (G : xG) (C : xC) (r : Option Value) (h' : mH) : Prop := C.2.2.1.2.2 = MQ C.2.1.2.2.2 (xQc G r h') C.2.1.2.2.1 C.2.1.1 (h'.2.1 - C.2.2.2.1.1) (h'.2.2 - C.2.2.2.1.2) (xFr G) ∧ C.2.2.2.2.1 = h'.2.1 ∧ C.2.2.2.2.2 = h'.2.2
theorem xlg (vs : List Value) : (lg_sl (vs.map (xrv G))).length = (lg_sl vs).length := by
  induction vs with
  | nil => rfl
  | cons v vs ih =>
    show ((if (xrv G v).category = 2 then [Slot.val (xrv G v), .second] else [.val (xrv G v)]) ++ lg_sl (vs.map (xrv G))).length = ((if v.category = 2 then [Slot.val v, .second] else [.val v]) ++ lg_sl vs).length
    rw [xrv_cat, List.length_append, List.length_append, ih]
    split <;> rfl
theorem xla (vs : List Value) : ∀ n : Nat, lv_args n (vs.map (xrv G)) = xrl G (lv_args n vs) := by
  induction vs with
  | nil => intro n; rfl
  | cons v vs ih =>
    intro n
    show (n, xrv G v) :: lv_args (if (xrv G v).category = 2 then n + 2 else n + 1) (vs.map (xrv G)) = (n, xrv G v) :: xrl G (lv_args (if v.category = 2 then n + 2 else n + 1) vs)
    rw [xrv_cat, ih]
/-- a contract out of the walk of the body -/
theorem XR.of {l : Launch} {M : xM} {av : List Value} {h h' : mH} {r : Option Value} (C0 : xC) (hy : plainName M.2.1.cls = true) (hlen : (lg_sl av).length ≤ M.2.2.1)
    (body : ∀ C : xC, C.1.2.1 = l → C.2.2.2.1.1 = h.2.1 → C.2.2.2.1.2 = h.2.2 → xEnd G C r h' → X G C M 0 (lv_args 0 av) [] h) : XR G l M av h r h' := by
  refine ⟨(body ((C0.1.1, l, C0.1.2.2.1, C0.1.2.2.2), C0.2.1, (C0.2.2.1.1, C0.2.2.1.2.1, MQ C0.2.1.2.2.2 (xQc G r h') C0.2.1.2.2.1 C0.2.1.1 (h'.2.1 - h.2.1) (h'.2.2 - h.2.2) (xFr G)), (h.2.1, h.2.2), (h'.2.1, h'.2.2)) rfl rfl rfl ⟨rfl, rfl, rfl⟩).1, fun hst => ?_⟩
  refine Met.ofW (cc := M.1) (maxL := M.2.2.1) (ret := M.2.2.2.1) hy rfl ?_
  intro p e s m args below meth c s₁ B hml hv
  obtain ⟨rfl, hWD, hR⟩ := hv
  have hts := atoms_spec (ws := ws_ M.2.1 M.1 M.2.2.1 M.2.2.2.1) B.pre
  have hts : ∀ w ∈ lw_all, w.before _ s = true := fun w h => hts w (List.mem_cons_of_mem _ h)
  have hown : s.vm.findClass M.2.1.cls = some m.cls := findClass_of_methodNamed B.named
  have k := body ((p, l, e, (headSpec (ws_ M.2.1 M.1 M.2.2.1 M.2.2.2.1) (xRm M.2.2.2.2 h h')).room), (s, m, (av.map (xrv G)).toArray, below), (meth, c, MQ below (xQc G r h') (av.map (xrv G)).toArray s (h'.2.1 - h.2.1) (h'.2.2 - h.2.2) (xFr G)), (h.2.1, h.2.2), (h'.2.1, h'.2.2)) rfl rfl rfl ⟨rfl, rfl, rfl⟩
  have hz : G.1 ≤ s.heap.size := by rw [hR.2.1]; omega
  have k := k.2 ⟨B.exec, B.bytes, hown, hml, hts, B.returns, B.notSynchronized, (name_of_methodNamed B.named B.method).1, hWD, ⟨hz, hR.2.2.1⟩, Nat.le_refl _, Nat.le_refl _, Nat.le_refl _, Nat.le_refl _, hst⟩ (Nat.le_refl _) (Nat.le_refl _)
  have hl := lv_entry (av.map (xrv G)) (n := M.2.2.1) (by rw [xlg]; exact hlen)
  rw [xla] at hl
  have k9 := k _ s.heap [] hl hR (fun q hq => by cases hq)
  show W p l e _ s m _ below meth c s.heap [] 0 0 _ (entryFrame m (av.map (xrv G)).toArray M.2.2.1)
  rw [lg_entry_eq]
  rw [Nat.sub_self, Nat.sub_self] at k9
  exact k9
end XW2
