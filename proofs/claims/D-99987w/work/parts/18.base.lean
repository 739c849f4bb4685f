section XTh
variable {G : xG} {C : xC} {M M' : xM} {pc : Nat} {lv : List (Nat × Value)} {st : List Value} {h h1 : mH} {r : Option Value}
/-- an outcome: an answer, or what is thrown (address, class) -/
abbrev xO : Type := Option Value ⊕ (Nat × String)
def xQo (G : xG) (o : xO) (h' : mH) : Array Value → State → Outcome → State → Prop := match o with
  | .inl r => xQc G r h'
  | .inr _ => fun _ _ _ _ => False
def xXo (G : xG) (o : xO) (h' : mH) : Addr → String → State → State → Prop := match o with
  | .inl _ => fun _ _ _ _ => False
  | .inr (a, E) => fun q E' _ t => q = xmu G a ∧ E' = E ∧ xHR G h' t.heap
/-- THE CONTRACT of one call of a method that returns or throws -/
def XT (G : xG) (l : Launch) (M : xM) (av : List Value) (h : mH) (o : xO) (h' : mH) : Prop := (h.2.1 ≤ h'.2.1 ∧ h.2.2 ≤ h'.2.2) ∧ (l.stackTraces = false → vx_Met l M.2.1 (ws_ M.2.1 M.1 M.2.2.1 M.2.2.2.1) (xRm M.2.2.2.2 h h') (xPc G av h) (xQo G o h') (xXo G o h') (h'.2.1 - h.2.1) (h'.2.2 - h.2.2) (xFr G))
/-- how the walk ends; tb: the table of the method's handlers -/
def xEndT (G : xG) (C : xC) (tb : List ExceptionTableEntry) (o : xO) (h' : mH) : Prop := C.2.2.1.2.2 = vx_MQ C.2.1.2.2.2 (xQo G o h') (xXo G o h') C.2.1.2.2.1 C.2.1.1 (h'.2.1 - C.2.2.2.1.1) (h'.2.2 - C.2.2.2.1.2) (xFr G) ∧ C.2.2.2.2.1 = h'.2.1 ∧ C.2.2.2.2.2 = h'.2.2 ∧ C.2.2.1.2.1.exceptionTable.toList = tb
theorem XT.of {l : Launch} {M : xM} {av : List Value} {h h' : mH} {o : xO} (C0 : xC) (hy : plainName M.2.1.cls = true) (hlen : (lg_sl av).length ≤ M.2.2.1)
    (body : ∀ C : xC, C.1.2.1 = l → C.2.2.2.1.1 = h.2.1 → C.2.2.2.1.2 = h.2.2 → xEndT G C [] o h' → X G C M 0 (lv_args 0 av) [] h) : XT G l M av h o h' := by
  refine ⟨(body ((C0.1.1, l, C0.1.2.2.1, C0.1.2.2.2), C0.2.1, (C0.2.2.1.1, { C0.2.2.1.2.1 with exceptionTable := #[] }, vx_MQ C0.2.1.2.2.2 (xQo G o h') (xXo G o h') C0.2.1.2.2.1 C0.2.1.1 (h'.2.1 - h.2.1) (h'.2.2 - h.2.2) (xFr G)), (h.2.1, h.2.2), (h'.2.1, h'.2.2)) rfl rfl rfl ⟨rfl, rfl, rfl, rfl⟩).1, fun hst => ?_⟩
  refine vx_ofW (cc := M.1) (maxL := M.2.2.1) (ret := M.2.2.2.1) hy rfl ?_
  intro p e s m args below meth c s₁ B hml htb hv
  obtain ⟨rfl, hWD, hR⟩ := hv
  have hts := atoms_spec (ws := ws_ M.2.1 M.1 M.2.2.1 M.2.2.2.1) B.pre
  have hts : ∀ w ∈ lw_all, w.before _ s = true := fun w h => hts w (List.mem_cons_of_mem _ h)
  have hown : s.vm.findClass M.2.1.cls = some m.cls := findClass_of_methodNamed B.named
  have htb : c.exceptionTable.toList = [] := by
    cases h9 : c.exceptionTable.toList with
    | nil => rfl
    | cons x t => exact absurd (htb x (by rw [h9]; exact List.mem_cons_self)) (fun h => h)
  have k := body ((p, l, e, (headSpec (ws_ M.2.1 M.1 M.2.2.1 M.2.2.2.1) (xRm M.2.2.2.2 h h')).room), (s, m, (av.map (xrv G)).toArray, below), (meth, c, vx_MQ below (xQo G o h') (xXo G o h') (av.map (xrv G)).toArray s (h'.2.1 - h.2.1) (h'.2.2 - h.2.2) (xFr G)), (h.2.1, h.2.2), (h'.2.1, h'.2.2)) rfl rfl rfl ⟨rfl, rfl, rfl, htb⟩
  have hz : G.1 ≤ s.heap.size := by rw [hR.2.1]; omega
  have k := k.2 ⟨B.exec, B.bytes, hown, hml, hts, B.returns, B.notSynchronized, (name_of_methodNamed B.named B.method).1, hWD, ⟨hz, hR.2.2.1⟩, Nat.le_refl _, Nat.le_refl _, Nat.le_refl _, Nat.le_refl _, hst⟩ (Nat.le_refl _) (Nat.le_refl _)
  have hl := lv_entry (av.map (xrv G)) (n := M.2.2.1) (by rw [xlg]; exact hlen)
  rw [xla] at hl
  have k9 := k _ s.heap [] hl hR (fun q hq => by cases hq)
  show W p l e _ s m _ below meth c s.heap [] 0 0 _ (entryFrame m (av.map (xrv G)).toArray M.2.2.1)
  rw [lg_entry_eq]
  rw [Nat.sub_self, Nat.sub_self] at k9
  exact k9
theorem x_iretT {tb : List ExceptionTableEntry} {v : Int32} {ty : FieldType} (hE : xEndT G C tb (.inl (some (.int v))) h) (hr : M.2.2.2.1 = some ty) (hn : narrow ty (.int v) = .int v) (hd : decode M.1 pc = .ok (.ireturn, 1)) : X G C M pc lv [.int v] h := by
  obtain ⟨e1, e2, e3, -⟩ := hE
  refine ⟨⟨by rw [e2]; exact Nat.le_refl _, by rw [e3]; exact Nat.le_refl _⟩, fun hC b1 b2 ls H locs hl hR hq => ?_⟩
  unfold xW
  rw [e1]
  exact vx_ret (W.zret hC.1 hC.2.1 (hC.2.2.2.2.2.1.trans hr) hn (fun t ht hW => ⟨rfl, by rw [ht]; exact hR⟩) hq hd hC.2.2.2.2.2.2.1)
theorem x_vretT {tb : List ExceptionTableEntry} (hE : xEndT G C tb (.inl none) h) (hr : M.2.2.2.1 = none) (hd : decode M.1 pc = .ok (.return_, 1)) : X G C M pc lv [] h := by
  obtain ⟨e1, e2, e3, -⟩ := hE
  refine ⟨⟨by rw [e2]; exact Nat.le_refl _, by rw [e3]; exact Nat.le_refl _⟩, fun hC b1 b2 ls H locs hl hR hq => ?_⟩
  unfold xW
  rw [e1]
  exact vx_ret (W.vret hC.1 hC.2.1 (hC.2.2.2.2.2.1.trans hr) (fun t ht hW => ⟨rfl, by rw [ht]; exact hR⟩) hq hd hC.2.2.2.2.2.2.1)
theorem x_aretT {tb : List ExceptionTableEntry} {a : Nat} {ty : FieldType} (hE : xEndT G C tb (.inl (some (.ref a))) h) (hr : M.2.2.2.1 = some ty) (hty : (∃ n, ty = .object n) ∨ ∃ t, ty = .array t) (hd : decode M.1 pc = .ok (.areturn, 1)) : X G C M pc lv [.ref a] h := by
  obtain ⟨e1, e2, e3, -⟩ := hE
  refine ⟨⟨by rw [e2]; exact Nat.le_refl _, by rw [e3]; exact Nat.le_refl _⟩, fun hC b1 b2 ls H locs hl hR hq => ?_⟩
  unfold xW
  rw [e1]
  refine vx_ret (W.aret (v := va_rf (xro G a)) hC.1 hC.2.1 (hC.2.2.2.2.2.1.trans hr) hty ?_ (fun t ht hW => ⟨rfl, by rw [ht]; exact hR⟩) hq hd hC.2.2.2.2.2.2.1)
  cases xro G a with
  | none => exact Or.inl rfl
  | some q => exact Or.inr ⟨q, rfl⟩
/-- 'throw x' of an object of the class ci, out of the method -/
theorem x_athrow {a ci : Nat} {q : vw_C} (hE : xEndT G C [] (.inr (a, q.1)) h) (ha : 100 ≤ a) (hb : gC h a = ci) (hq : xCl[ci]? = some q) (hd : decode M.1 pc = .ok (.athrow, 1)) : X G C M pc lv (.ref a :: st) h := by
  obtain ⟨e1, e2, e3, e4⟩ := hE
  refine ⟨⟨by rw [e2]; exact Nat.le_refl _, by rw [e3]; exact Nat.le_refl _⟩, fun hC b1 b2 ls H locs hl hR hq9 => ?_⟩
  obtain ⟨e, cell, g1, g2, g3⟩ := x_rcv hC.2.2.2.2.2.2.2.2.1 hR hb hq
  unfold xW
  rw [e1]
  show W _ _ _ _ _ _ _ _ _ _ _ _ _ _ _ (F0 C.2.1.2.1 pc ls (xrv G (.ref a) :: st.map (xrv G)))
  rw [e]
  obtain ⟨fs, hx⟩ := gC_spec (h := h) (r := a) (S := [ci]) (by rw [hb]; exact List.mem_singleton_self _) (fun c hc => by rw [List.mem_singleton.mp hc]; exact ⟨q, hq⟩)
  obtain ⟨-, -, a3⟩ := hR.2.2.2 a _ hx
  obtain ⟨r9, -, cell9, k1, -, k3, -⟩ := xAt.at ha a3
  cases g1.symm.trans k1
  exact vx_athrow hC.1 hC.2.1 hd (vx_out (E := q.1) (fun x hx => by rw [e4] at hx; cases hx) hC.2.2.2.2.2.2.1 g1 k3 g3 (fun t ht _ => ⟨rfl, rfl, by rw [ht]; exact hR⟩) hq9 (Nat.le_refl _) (Nat.le_refl _))
/-- the run of a call that returns or throws -/
def xRunT (G : xG) (C : xC) (M : xM) (av : List Value) (h : mH) (o : xO) (h1 : mH) (pc : Nat) (st0 st : List Value) : Prop := xOK G C M → ∀ (ls : Array Slot) (H : Heap) (locs : List Loc) (cells slots : Nat), ls.size = M.2.2.1 → xHR G h H → cells + (h1.2.1 - h.2.1) ≤ C.1.2.2.2.cells ∧ slots + (h1.2.2 - h.2.2) ≤ C.1.2.2.2.slots →
  vx_Run C.1.1 C.1.2.1 C.1.2.2.1 C.1.2.2.2 C.2.1.1 C.2.1.2.1 C.2.1.2.2.1 C.2.1.2.2.2 C.2.2.1.1 C.2.2.1.2.1 H locs cells slots (h1.2.1 - h.2.1) (h1.2.2 - h.2.2) (F0 C.2.1.2.1 pc ls (st0.map (xrv G))) (st.map (xrv G)) (xQo G o h1 (av.map (xrv G)).toArray) (xXo G o h1) (xFr G)
/-- .. it returned -/
theorem x_goR {av st0 : List Value} (hX : XT G C.1.2.1 M' av h (.inl r) h1) (run : xRunT G C M av h (.inl r) h1 pc st0 st) (kk : X G C M (pc + 3) lv (r.toList ++ st) h1) : X G C M pc lv st0 h := by
  obtain ⟨⟨m1, m2⟩, -⟩ := hX
  obtain ⟨⟨g1, g2⟩, k⟩ := kk
  refine ⟨⟨Nat.le_trans m1 g1, Nat.le_trans m2 g2⟩, fun hC b1 b2 ls H locs hl hR hq T hT XS => ?_⟩
  obtain ⟨-, -, -, -, -, -, -, -, -, -, -, -, hc, hs, -⟩ := id hC
  have k := k hC (Nat.le_trans b1 m1) (Nat.le_trans b2 m2)
  rcases run hC ls H locs (h.2.1 - C.2.2.2.1.1) (h.2.2 - C.2.2.2.1.2) hl.1 hR ⟨by omega, by omega⟩ T hT XS with ⟨v, st9, t, T', L, -, X', hL, e1, e2, ⟨hv, hR1⟩, go⟩ | ⟨q, st9, t, T', L, E, ce, -, X', hL, e1, e2, hx, -⟩
  · have hv : v = r.map (xrv G) := by injection hv
    have k9 := k ls T'.heap (locs ++ L) hl (by rw [e1]; exact hR1) (fun q hq9 => by
      rcases List.mem_append.mp hq9 with e | e
      · exact hq q e
      · exact hL q e)
    have f1 : h1.2.1 - C.2.2.2.1.1 = h.2.1 - C.2.2.2.1.1 + (h1.2.1 - h.2.1) := by omega
    have f2 : h1.2.2 - C.2.2.2.1.2 = h.2.2 - C.2.2.2.1.2 + (h1.2.2 - h.2.2) := by omega
    rw [f1, f2] at k9
    have f3 : (r.toList ++ st).map (xrv G) = v.toList ++ st.map (xrv G) := by
      rw [hv, List.map_append]
      cases r <;> rfl
    rw [f3] at k9
    obtain ⟨t9, a9, q9⟩ := k9 T' rfl X'
    exact ⟨t9, go t9 a9, q9⟩
  · exact absurd hx (fun h => h)
/-- .. it threw, and nobody here catches: so does this method -/
theorem x_goX {a : Nat} {E : String} {av st0 : List Value} (hX : XT G C.1.2.1 M' av h (.inr (a, E)) h1) (run : xRunT G C M av h (.inr (a, E)) h1 pc st0 st) (hE : xEndT G C [] (.inr (a, E)) h1) : X G C M pc lv st0 h := by
  obtain ⟨⟨m1, m2⟩, -⟩ := hX
  obtain ⟨z1, z2, z3, z4⟩ := hE
  refine ⟨⟨by rw [z2]; exact m1, by rw [z3]; exact m2⟩, fun hC b1 b2 ls H locs hl hR hq T hT XS => ?_⟩
  obtain ⟨-, -, -, -, -, -, -, -, -, -, -, -, hc, hs, -⟩ := id hC
  rcases run hC ls H locs (h.2.1 - C.2.2.2.1.1) (h.2.2 - C.2.2.2.1.2) hl.1 hR ⟨by rw [z2] at hc; omega, by rw [z3] at hs; omega⟩ T hT XS with ⟨v, st9, t, T', L, -, X', hL, e1, e2, hx, -⟩ | ⟨q, st9, t, T', L, E9, ce, -, X', hL, e1, e2, ⟨x1, x2, x3⟩, hce, hcv, hcl, go⟩
  · exact absurd hx (fun h => h)
  · subst x1
    subst x2
    have k := vx_out (l := C.1.2.1) (e := C.1.2.2.1) (p := C.1.1) (R := C.1.2.2.2) (args := C.2.1.2.2.1) (below := C.2.1.2.2.2) (m := C.2.1.2.1) (meth := C.2.2.1.1) (c := C.2.2.1.2.1) (s := C.2.1.1) (H := T'.heap) (locs := locs ++ L) (cells := h.2.1 - C.2.2.2.1.1 + (h1.2.1 - h.2.1)) (slots := h.2.2 - C.2.2.2.1.2 + (h1.2.2 - h.2.2)) (Qc := xQo G (.inr (a, E9)) h1) (XC := xXo G (.inr (a, E9)) h1) (free := xFr G) (ls := ls) (rest := st.map (xrv G)) (pc := pc) (mc := h1.2.1 - C.2.2.2.1.1) (ms := h1.2.2 - C.2.2.2.1.2) (E := E9) (ce := ce) (q := xmu G a)
      (fun x hx => by rw [z4] at hx; cases hx) hC.2.2.2.2.2.2.1 (by rw [e1]; exact hce) hcv hcl (fun t9 ht9 _ => ⟨rfl, rfl, by rw [ht9, e1]; exact x3⟩) (fun z hz => by
        rcases List.mem_append.mp hz with e | e
        · exact hq z e
        · exact hL z e) (by omega) (by omega)
    obtain ⟨t9, a9, q9⟩ := k T' rfl X'
    refine ⟨t9, go.trans a9, ?_⟩
    rw [z1]
    exact q9
theorem x_rV {ix n b ci : Nat} {o : xO} {As : List Value} {q : vw_C} (hX : XT G C.1.2.1 M' (.ref b :: As) h o h1) (hb : gC h b = ci) (hq : xCl[ci]? = some q) (hqn : M'.2.1.cls = q.1) (hmd : xMD M' n) (hf : xFit M' M)
    (w1 : Cond.methodLink M.2.1.cls ix M'.2.1 ∈ lw_all) (w2 : Cond.instanceMethod M'.2.1 ∈ lw_all) (w3 : Cond.selects q.1 M'.2.1 M'.2.1 ∈ lw_all) (w4 : Cond.initialized q.1 ∈ lw_all) (w5 : Cond.code M'.2.1 M'.1 M'.2.2.1 M'.2.2.2.1 ∈ lw_all)
    (hn : As.length = n) (hst : (st.map fun v => v.category).sum ≤ 8) (hd : decode M.1 pc = .ok (.invokevirtual ix, 3)) : xRunT G C M (.ref b :: As) h o h1 pc (As.reverse ++ .ref b :: st) st := by
  intro hC ls H locs cells slots hsz hR hfit
  have hWD := hC.2.2.2.2.2.2.2.2.1
  obtain ⟨e, hrc⟩ := x_rcv hWD hR hb hq
  rw [xst_eq e, List.map_cons, e]
  exact vx_runV (As := As.map (xrv G)) (rest := st.map (xrv G)) (g := F0 C.2.1.2.1 pc ls ((As.map (xrv G)).reverse ++ .ref (xmu G b) :: st.map (xrv G))) ⟨hC.1, hC.2.1, hC.2.2.2.1, hC.2.2.1, hC.2.2.2.2.1⟩ (hX.2 hC.2.2.2.2.2.2.2.2.2.2.2.2.2.2) (cwV n hC.2.2.2.2.1 (lw_V w1 w2 w3 w4 w5) rfl rfl rfl ⟨hqn, hmd⟩ (xfit hC hf)) ⟨xPc_blind _ _, hrc, fun U hU hW => by
    have h9 := xPc_at hC hR (.ref b :: As) U hU hW
    rw [List.map_cons, e] at h9
    exact h9⟩ rfl (by rw [List.length_map]; exact hn) hsz rfl (lv_room (by rw [xcat_sum]; exact hst)) hd hfit
theorem x_rS {ix n : Nat} {o : xO} {As : List Value} (hX : XT G C.1.2.1 M' As h o h1) (hmd : xMD M' n) (hf : xFit M' M)
    (w1 : Cond.methodLink M.2.1.cls ix M'.2.1 ∈ lw_all) (w2 : Cond.static M'.2.1 ∈ lw_all) (w3 : Cond.initialized M'.2.1.cls ∈ lw_all) (w5 : Cond.code M'.2.1 M'.1 M'.2.2.1 M'.2.2.2.1 ∈ lw_all)
    (hn : As.length = n) (hst : (st.map fun v => v.category).sum ≤ 8) (hd : decode M.1 pc = .ok (.invokestatic ix, 3)) : xRunT G C M As h o h1 pc (As.reverse ++ st) st := by
  intro hC ls H locs cells slots hsz hR hfit
  rw [List.map_append, List.map_reverse]
  exact vx_runS (As := As.map (xrv G)) (rest := st.map (xrv G)) (g := F0 C.2.1.2.1 pc ls ((As.map (xrv G)).reverse ++ st.map (xrv G))) ⟨hC.1, hC.2.1, hC.2.2.2.1, hC.2.2.1, hC.2.2.2.2.1⟩ (hX.2 hC.2.2.2.2.2.2.2.2.2.2.2.2.2.2) (va_cwS n hC.2.2.2.2.1 (lw_S w1 w2 w3 w5) rfl rfl rfl hmd (xfit hC hf)) ⟨xPc_blind _ _, xPc_at hC hR As⟩ rfl (by rw [List.length_map]; exact hn) hsz rfl (lv_room (by rw [xcat_sum]; exact hst)) hd hfit
theorem x_rU {ix n b : Nat} {S : List Nat} {o : xO} {x : MethodName} {owner : String} {As : List Value} (hX : XT G C.1.2.1 M' (.ref b :: As) h o h1) (hb : gC h b ∈ S) (hu : xUpS M.2.1.cls ix x owner S M'.2.1) (hxn : (parseMethodDescriptor x.desc).map (fun d => d.parameters.length) = some n) (hf : xFit M' M) (w5 : Cond.code M'.2.1 M'.1 M'.2.2.1 M'.2.2.2.1 ∈ lw_all)
    (hn : As.length = n) (hst : (st.map fun v => v.category).sum ≤ 8) (hd : decode M.1 pc = .ok (.invokevirtual ix, 3)) : xRunT G C M (.ref b :: As) h o h1 pc (As.reverse ++ .ref b :: st) st := by
  intro hC ls H locs cells slots hsz hR hfit
  have hWD := hC.2.2.2.2.2.2.2.2.1
  obtain ⟨q, hq, hu⟩ := hu _ hb
  obtain ⟨e, hrc⟩ := x_rcv hWD hR rfl hq
  rw [xst_eq e, List.map_cons, e]
  exact vx_runU (As := As.map (xrv G)) (rest := st.map (xrv G)) (g := F0 C.2.1.2.1 pc ls ((As.map (xrv G)).reverse ++ .ref (xmu G b) :: st.map (xrv G))) ⟨hC.1, hC.2.1, hC.2.2.2.1, hC.2.2.1, hC.2.2.2.2.1⟩ (hX.2 hC.2.2.2.2.2.2.2.2.2.2.2.2.2.2) (x_cuU hC hu hxn rfl rfl (xfit hC hf) w5) ⟨xPc_blind _ _, hrc, fun U hU hW => by
    have h9 := xPc_at hC hR (.ref b :: As) U hU hW
    rw [List.map_cons, e] at h9
    exact h9⟩ rfl (by rw [List.length_map]; exact hn) hsz rfl (lv_room (by rw [xcat_sum]; exact hst)) hd hfit
theorem x_rC {ix n b : Nat} {S : List Nat} {o : xO} {As : List Value} (hX : XT G C.1.2.1 M' (.ref b :: As) h o h1) (hb : gC h b ∈ S) (hu : xUpC M.2.1.cls ix M'.2.1 S) (hxn : (parseMethodDescriptor M'.2.1.desc).map (fun d => d.parameters.length) = some n) (hf : xFit M' M) (w5 : Cond.code M'.2.1 M'.1 M'.2.2.1 M'.2.2.2.1 ∈ lw_all)
    (hn : As.length = n) (hst : (st.map fun v => v.category).sum ≤ 8) (hd : decode M.1 pc = .ok (.invokevirtual ix, 3)) : xRunT G C M (.ref b :: As) h o h1 pc (As.reverse ++ .ref b :: st) st := by
  intro hC ls H locs cells slots hsz hR hfit
  have hWD := hC.2.2.2.2.2.2.2.2.1
  obtain ⟨q, hq, cu⟩ := x_cuC (rm := xRm M'.2.2.2.2 h h1) (mc := h1.2.1 - h.2.1) (ms := h1.2.2 - h.2.2) hC hu hb hxn rfl rfl (xfit hC hf) w5
  obtain ⟨e, hrc⟩ := x_rcv hWD hR rfl hq
  rw [xst_eq e, List.map_cons, e]
  exact vx_runU (As := As.map (xrv G)) (rest := st.map (xrv G)) (g := F0 C.2.1.2.1 pc ls ((As.map (xrv G)).reverse ++ .ref (xmu G b) :: st.map (xrv G))) ⟨hC.1, hC.2.1, hC.2.2.2.1, hC.2.2.1, hC.2.2.2.2.1⟩ (hX.2 hC.2.2.2.2.2.2.2.2.2.2.2.2.2.2) cu ⟨xPc_blind _ _, hrc, fun U hU hW => by
    have h9 := xPc_at hC hR (.ref b :: As) U hU hW
    rw [List.map_cons, e] at h9
    exact h9⟩ rfl (by rw [List.length_map]; exact hn) hsz rfl (lv_room (by rw [xcat_sum]; exact hst)) hd hfit
end XTh
