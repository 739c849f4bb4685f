section XHd
variable {G : xG} {C : xC} {M M' : xM} {pc : Nat} {lv : List (Nat × Value)} {st : List Value} {h h1 : mH} {r : Option Value}
/-- a call threw, and this method's one handler catches -/
theorem x_goH {a : Nat} {E : String} {av st0 : List Value} {x : ExceptionTableEntry} (hX : XT G C.1.2.1 M' av h (.inr (a, E)) h1) (run : xRunT G C M av h (.inr (a, E)) h1 pc st0 st) (ha : 6 ≤ a) (htab : C.2.2.1.2.1.exceptionTable.toList = [x]) (hx : covers x pc = true) (h0 : x.catchType ≠ 0) (hl : Cond.classLink M.2.1.cls x.catchType E ∈ lw_all) (kk : X G C M x.handlerPc lv [.ref a] h1) : X G C M pc lv st0 h := by
  obtain ⟨⟨m1, m2⟩, -⟩ := hX
  obtain ⟨⟨g1, g2⟩, k⟩ := kk
  refine ⟨⟨Nat.le_trans m1 g1, Nat.le_trans m2 g2⟩, fun hC b1 b2 ls H locs hl9 hR hq T hT XS => ?_⟩
  obtain ⟨-, -, -, -, -, -, -, -, -, -, -, -, hc, hs, -⟩ := id hC
  have k := k hC (Nat.le_trans b1 m1) (Nat.le_trans b2 m2)
  rcases run hC ls H locs (h.2.1 - C.2.2.2.1.1) (h.2.2 - C.2.2.2.1.2) hl9.1 hR ⟨by omega, by omega⟩ T hT XS with ⟨v, st9, t, T', L, -, X', hL, e1, e2, hx9, -⟩ | ⟨q, st9, t, T', L, E9, ce, -, X', hL, e1, e2, ⟨x1, x2, x3⟩, hce, hcv, hcl, go⟩
  · exact absurd hx9 (fun h => h)
  · subst x1
    subst x2
    have k9 := k ls T'.heap (locs ++ L) hl9 (by rw [e1]; exact x3) (fun q hq9 => by
      rcases List.mem_append.mp hq9 with e | e
      · exact hq q e
      · exact hL q e)
    have f1 : h1.2.1 - C.2.2.2.1.1 = h.2.1 - C.2.2.2.1.1 + (h1.2.1 - h.2.1) := by omega
    have f2 : h1.2.2 - C.2.2.2.1.2 = h.2.2 - C.2.2.2.1.2 + (h1.2.2 - h.2.2) := by omega
    rw [f1, f2] at k9
    have k9 : xW C T'.heap (locs ++ L) (h.2.1 - C.2.2.2.1.1 + (h1.2.1 - h.2.1)) (h.2.2 - C.2.2.2.1.2 + (h1.2.2 - h.2.2)) (F0 C.2.1.2.1 x.handlerPc ls [xrv G (.ref a)]) := k9
    rw [xrv_hi ha] at k9
    have hcast : (Cond.castable E9 E9).before C.2.1.2.2.1 C.2.1.1 = true := by
      simp [Cond.before, Cond.holds, Cond.value, hcl, va_asg]
    have kx := vx_catch (ls := ls) (rest := st.map (xrv G)) (pc := pc) (E := E9) (name := E9) (q := xmu G a) (ce := ce) (H := T'.heap) hC.2.2.1 [] x [] htab (fun z hz => nomatch hz) hx h0 (hC.2.2.2.2.1 _ hl) hcast (by rw [e1]; exact hce) hcv hcl k9
    obtain ⟨t9, a9, q9⟩ := kx T' rfl X'
    exact ⟨t9, go.trans a9, q9⟩
/-- THE CONTRACT of one call of a method with handlers, which returns -/
def XRW (G : xG) (l : Launch) (M : xM) (hh : List (Nat × Nat × Nat × Nat)) (av : List Value) (h : mH) (r : Option Value) (h' : mH) : Prop := (h.2.1 ≤ h'.2.1 ∧ h.2.2 ≤ h'.2.2) ∧ (l.stackTraces = false → vx_Met l M.2.1 (wsW_ M.2.1 M.1 M.2.2.1 M.2.2.2.1 hh) (xRm M.2.2.2.2 h h') (xPc G av h) (xQo G (.inl r) h') (xXo G (.inl r) h') (h'.2.1 - h.2.1) (h'.2.2 - h.2.2) (xFr G))
theorem XRW.of {l : Launch} {M : xM} {hh : List (Nat × Nat × Nat × Nat)} {av : List Value} {h h' : mH} {r : Option Value} (C0 : xC) (hy : plainName M.2.1.cls = true) (hlen : (lg_sl av).length ≤ M.2.2.1)
    (body : ∀ C : xC, C.1.2.1 = l → C.2.2.2.1.1 = h.2.1 → C.2.2.2.1.2 = h.2.2 → xEndT G C (tableOf hh) (.inl r) h' → X G C M 0 (lv_args 0 av) [] h) : XRW G l M hh av h r h' := by
  refine ⟨(body ((C0.1.1, l, C0.1.2.2.1, C0.1.2.2.2), C0.2.1, (C0.2.2.1.1, { C0.2.2.1.2.1 with exceptionTable := (tableOf hh).toArray }, vx_MQ C0.2.1.2.2.2 (xQo G (.inl r) h') (xXo G (.inl r) h') C0.2.1.2.2.1 C0.2.1.1 (h'.2.1 - h.2.1) (h'.2.2 - h.2.2) (xFr G)), (h.2.1, h.2.2), (h'.2.1, h'.2.2)) rfl rfl rfl ⟨rfl, rfl, rfl, rfl⟩).1, fun hst => ?_⟩
  refine vx_ofWH (cc := M.1) (maxL := M.2.2.1) (ret := M.2.2.2.1) (hh := hh) hy rfl ?_
  intro p e s m args below meth c s₁ B hml hv
  obtain ⟨rfl, hWD, hR⟩ := hv
  have hts0 := atoms_spec (ws := wsW_ M.2.1 M.1 M.2.2.1 M.2.2.2.1 hh) B.pre
  have hts : ∀ w ∈ lw_all, w.before _ s = true := fun w h => hts0 w (List.mem_cons_of_mem _ h)
  have hown : s.vm.findClass M.2.1.cls = some m.cls := findClass_of_methodNamed B.named
  have htb : c.exceptionTable.toList = tableOf hh := vx_table (x := M.2.1) B (hts0 _ List.mem_cons_self)
  have k := body ((p, l, e, (headSpec (wsW_ M.2.1 M.1 M.2.2.1 M.2.2.2.1 hh) (xRm M.2.2.2.2 h h')).room), (s, m, (av.map (xrv G)).toArray, below), (meth, c, vx_MQ below (xQo G (.inl r) h') (xXo G (.inl r) h') (av.map (xrv G)).toArray s (h'.2.1 - h.2.1) (h'.2.2 - h.2.2) (xFr G)), (h.2.1, h.2.2), (h'.2.1, h'.2.2)) rfl rfl rfl ⟨rfl, rfl, rfl, htb⟩
  have hz : G.1 ≤ s.heap.size := by rw [hR.2.1]; omega
  have k := k.2 ⟨B.exec, B.bytes, hown, hml, hts, B.returns, B.notSynchronized, (name_of_methodNamed B.named B.method).1, hWD, ⟨hz, hR.2.2.1⟩, Nat.le_refl _, Nat.le_refl _, Nat.le_refl _, Nat.le_refl _, hst⟩ (Nat.le_refl _) (Nat.le_refl _)
  have hl := lv_entry (av.map (xrv G)) (n := M.2.2.1) (by rw [xlg]; exact hlen)
  rw [xla] at hl
  have k9 := k _ s.heap [] hl hR (fun q hq => by cases hq)
  show W p l e _ s m _ below meth c s.heap [] 0 0 _ (entryFrame m (av.map (xrv G)).toArray M.2.2.1)
  rw [lg_entry_eq]
  rw [Nat.sub_self, Nat.sub_self] at k9
  exact k9
/-- it returned (only the bounds are asked) -/
theorem x_goRB {av st0 : List Value} (hB : h.2.1 ≤ h1.2.1 ∧ h.2.2 ≤ h1.2.2) (run : xRunT G C M av h (.inl r) h1 pc st0 st) (kk : X G C M (pc + 3) lv (r.toList ++ st) h1) : X G C M pc lv st0 h := by
  obtain ⟨m1, m2⟩ := hB
  obtain ⟨⟨g1, g2⟩, k⟩ := kk
  refine ⟨⟨Nat.le_trans m1 g1, Nat.le_trans m2 g2⟩, fun hC b1 b2 ls H locs hl hR hq T hT XS => ?_⟩
  obtain ⟨-, -, -, -, -, -, -, -, -, -, -, -, hc, hs, -⟩ := id hC
  have k := k hC (Nat.le_trans b1 m1) (Nat.le_trans b2 m2)
  rcases run hC ls H locs (h.2.1 - C.2.2.2.1.1) (h.2.2 - C.2.2.2.1.2) hl.1 hR ⟨by omega, by omega⟩ T hT XS with ⟨v, st9, t, T', L, -, X', hL, e1, e2, ⟨hv, hR1⟩, go⟩ | ⟨q, st9, t, T', L, E, ce, -, X', hL, e1, e2, hx, -⟩
  · have hv : v = r.map (xrv G) := by injection hv
    have k9 := k ls T'.heap (locs ++ L) hl (by rw [e1]; exact hR1) (fun q hq9 => by
      rcases List.mem_append.mp hq9 with e | e
      · exact hq q e
      · exact hL q e)
    have f1 : h1.2.1 - C.2.2.2.1.1 = h.2.1 - C.2.2.2.1.1 + (h1.2.1 - h.2.1) := by omega
    have f2 : h1.2.2 - C.2.2.2.1.2 = h.2.2 - C.2.2.2.1.2 + (h1.2.2 - h.2.2) := by omega
    rw [f1, f2] at k9
    have f3 : (r.toList ++ st).map (xrv G) = v.toList ++ st.map (xrv G) := by
      rw [hv, List.map_append]
      cases r <;> rfl
    rw [f3] at k9
    obtain ⟨t9, a9, q9⟩ := k9 T' rfl X'
    exact ⟨t9, go t9 a9, q9⟩
  · exact absurd hx (fun h => h)
/-- a call through an object of a method with handlers -/
theorem x_callVX {ix n b ci : Nat} {hh : List (Nat × Nat × Nat × Nat)} {As : List Value} {q : vw_C} (hX : XRW G C.1.2.1 M' hh (.ref b :: As) h r h1) (hb : gC h b = ci) (hq : xCl[ci]? = some q) (hqn : M'.2.1.cls = q.1) (hmd : xMD M' n) (hf : xFit M' M)
    (w1 : Cond.methodLink M.2.1.cls ix M'.2.1 ∈ lw_all) (w2 : Cond.instanceMethod M'.2.1 ∈ lw_all) (w3 : Cond.selects q.1 M'.2.1 M'.2.1 ∈ lw_all) (w4 : Cond.initialized q.1 ∈ lw_all) (w5 : Cond.codeWith M'.2.1 M'.1 M'.2.2.1 M'.2.2.2.1 hh ∈ lw_all)
    (hn : As.length = n) (hst : (st.map fun v => v.category).sum ≤ 8) (hd : decode M.1 pc = .ok (.invokevirtual ix, 3)) (kk : X G C M (pc + 3) lv (r.toList ++ st) h1) : X G C M pc lv (As.reverse ++ .ref b :: st) h := by
  refine x_goRB (av := .ref b :: As) hX.1 (fun hC ls H locs cells slots hsz hR hfit => ?_) kk
  have hWD := hC.2.2.2.2.2.2.2.2.1
  obtain ⟨e, hrc⟩ := x_rcv hWD hR hb hq
  rw [xst_eq e, List.map_cons, e]
  exact vx_runVX (As := As.map (xrv G)) (rest := st.map (xrv G)) (g := F0 C.2.1.2.1 pc ls ((As.map (xrv G)).reverse ++ .ref (xmu G b) :: st.map (xrv G))) ⟨hC.1, hC.2.1, hC.2.2.2.1, hC.2.2.1, hC.2.2.2.2.1⟩ (hX.2 hC.2.2.2.2.2.2.2.2.2.2.2.2.2.2) (vx_cwVW n hC.2.2.2.2.1 (lw_VW w1 w2 w3 w4 w5) rfl rfl rfl ⟨hqn, hmd⟩ (xfit hC hf)) ⟨xPc_blind _ _, hrc, fun U hU hW => by
    have h9 := xPc_at hC hR (.ref b :: As) U hU hW
    rw [List.map_cons, e] at h9
    exact h9⟩ rfl (by rw [List.length_map]; exact hn) hsz rfl (lv_room (by rw [xcat_sum]; exact hst)) hd hfit
/-- a static call of a method with handlers -/
theorem x_callSX {ix n : Nat} {hh : List (Nat × Nat × Nat × Nat)} {As : List Value} (hX : XRW G C.1.2.1 M' hh As h r h1) (hmd : xMD M' n) (hf : xFit M' M)
    (w1 : Cond.methodLink M.2.1.cls ix M'.2.1 ∈ lw_all) (w2 : Cond.static M'.2.1 ∈ lw_all) (w3 : Cond.initialized M'.2.1.cls ∈ lw_all) (w5 : Cond.codeWith M'.2.1 M'.1 M'.2.2.1 M'.2.2.2.1 hh ∈ lw_all)
    (hn : As.length = n) (hst : (st.map fun v => v.category).sum ≤ 8) (hd : decode M.1 pc = .ok (.invokestatic ix, 3)) (kk : X G C M (pc + 3) lv (r.toList ++ st) h1) : X G C M pc lv (As.reverse ++ st) h := by
  refine x_goRB (av := As) hX.1 (fun hC ls H locs cells slots hsz hR hfit => ?_) kk
  rw [List.map_append, List.map_reverse]
  exact vx_runSX (As := As.map (xrv G)) (rest := st.map (xrv G)) (g := F0 C.2.1.2.1 pc ls ((As.map (xrv G)).reverse ++ st.map (xrv G))) ⟨hC.1, hC.2.1, hC.2.2.2.1, hC.2.2.1, hC.2.2.2.2.1⟩ (hX.2 hC.2.2.2.2.2.2.2.2.2.2.2.2.2.2) (vx_cwSW n hC.2.2.2.2.1 (lw_SW w1 w2 w3 w5) rfl rfl rfl hmd (xfit hC hf)) ⟨xPc_blind _ _, xPc_at hC hR As⟩ rfl (by rw [List.length_map]; exact hn) hsz rfl (lv_room (by rw [xcat_sum]; exact hst)) hd hfit
/-- what a 'throw new NoSuchElementException()' leaves: one cell more, of which nothing is said -/
def xjk (h : mH) : mH := (h.1, h.2.1 + 1, h.2.2 + 6)
def xNse : String := "java/util/NoSuchElementException"
set_option maxRecDepth 100000 in
/-- 'throw new NoSuchElementException()' in StrangerMarket -/
theorem x_thr0 {ik ic : Nat} {names : List String} (hE : xEndT G C [] (.inr (h.2.1, xNse)) (xjk h)) (hnm : names = ["java/lang/RuntimeException", "java/lang/Exception"]) (hf : 8 ≤ M.2.2.2.2)
    (w1 : Cond.classLink M.2.1.cls ik xNse ∈ lw_all) (w2 : Cond.initialized xNse ∈ lw_all) (hat : ∀ w ∈ vx_at0 M.2.1.cls ic xNse names, (w ∈ lw_all ∨ (w ∈ lw_tbl ∧ xNwB w = true)) ∧ vx_ot w = true) (hst : (st.map fun v => v.category).sum ≤ 8)
    (d0 : decode M.1 pc = .ok (.new ik, 3)) (d3 : decode M.1 (pc + 3) = .ok (.dup, 1)) (d4 : decode M.1 (pc + 4) = .ok (.invokespecial ic, 3)) (d7 : decode M.1 (pc + 7) = .ok (.athrow, 1)) : X G C M pc lv st h := by
  obtain ⟨e1, e2, e3, e4⟩ := hE
  refine ⟨⟨by rw [e2]; exact Nat.le_succ _, by rw [e3]; exact Nat.le_add_right _ _⟩, fun hC b1 b2 ls H locs hl hR hq => ?_⟩
  have hWD := hC.2.2.2.2.2.2.2.2.1
  have hts := hC.2.2.2.2.1
  have hO : xOut G C.2.1.1 := hWD.2.2.2.2.2
  obtain ⟨-, -, -, -, -, -, -, -, -, hz, f1, f2, f3, f4, hst9⟩ := id hC
  have hkeep : ∀ a : Nat, a < G.2.2.2.2.2.size → ¬ (fun q => G.1 ≤ q) a → C.2.1.1.heap[a]? = G.2.2.2.2.2[a]? := fun a ha _ => hz.2 a (by rw [hO.1]; exact ha)
  have hZ : ∀ (n d : String) (k : Nat), va_Z Bundle.tN n d (xrv G (.ref k)) (fun q => G.1 ≤ q) C.2.1.1 G.2.2.2.2.2 → va_Zq Bundle.tN n d (fun q => G.1 ≤ q) C.2.1.1 C.2.1.1.heap := by
    intro n d k hz9
    have h9 := hz9.kept hkeep
    have h9 : va_Z Bundle.tN n d (va_rf (xro G k)) (fun q => G.1 ≤ q) C.2.1.1 C.2.1.1.heap := h9
    cases h0 : xro G k with
    | none => rw [h0] at h9; exact Or.inl h9
    | some t => rw [h0] at h9; exact Or.inr ⟨t, h9⟩
  have hU : vx_Zq Bundle.tN "UNASSIGNED_STACK" Bundle.steD (fun q => G.1 ≤ q) C.2.1.1 C.2.1.1.heap := ⟨hZ _ _ 1 (hO.2.2.2.1 _ (List.mem_of_getElem? (i := 2) rfl)), hO.2.2.2.2.2.2.1.kept hkeep⟩
  have hN : vx_Zq Bundle.tN "SUPPRESSED_SENTINEL" Bundle.listD (fun q => G.1 ≤ q) C.2.1.1 C.2.1.1.heap := ⟨hZ _ _ 2 (hO.2.2.2.1 _ (List.mem_of_getElem? (i := 3) rfl)), hO.2.2.2.2.2.2.2.1.kept hkeep⟩
  have hat9 : ∀ w ∈ vx_at0 M.2.1.cls ic xNse names, w.before C.2.1.2.2.1 C.2.1.1 = true := by
    intro w hw
    rcases (hat w hw).1 with e | ⟨e, e9⟩
    · exact hts _ e
    · exact va_Nw.use (xNw_tab e9) (hWD.2.1 _ e e9)
  have hK : 100 ≤ h.2.1 := hR.1
  intro T hT XS
  have hsz : C.2.1.1.heap.size ≤ H.size := by rw [← hT]; exact XS.same.2.1
  have hS : va_S (fun q => G.1 ≤ q) C.2.1.1.heap H locs := ⟨hsz, fun q hq9 hn => by rw [hR.2.2.1 q (Nat.lt_of_not_le hn), hz.2 q (Nat.lt_of_not_le hn)], hq⟩
  have k := vx_throw0 (p := C.1.1) (l := C.1.2.1) (e := C.1.2.2.1) (R := C.1.2.2.2) (args := C.2.1.2.2.1) (below := C.2.1.2.2.2) (meth := C.2.2.1.1) (cells := h.2.1 - C.2.2.2.1.1) (slots := h.2.2 - C.2.2.2.1.2) (ls := ls) (rest := st.map (xrv G)) (Qc := xQo G (.inr (h.2.1, xNse)) (xjk h)) (XC := xXo G (.inr (h.2.1, xNse)) (xjk h)) (free := xFr G) (mc := (xjk h).2.1 - C.2.2.2.1.1) (ms := (xjk h).2.2 - C.2.2.2.1.2) (cls := xNse) (names := names) hC.1 hC.2.1 hst9 hC.2.2.1 (by decide) (by rw [hnm]; decide) (hts _ w1) (hts _ w2) hat9 (fun w hw => by
      rcases List.mem_cons.mp hw with e | hw
      · rw [e]; rfl
      · rcases List.mem_cons.mp hw with e | hw
        · rw [e]; rfl
        · exact (hat w hw).2) hU hN hS (hl.1.trans hC.2.2.2.1.symm) d0 d3 d4 d7 (fun x hx => by rw [e4] at hx; cases hx) (by rw [hnm]; show 2 + 3 < _; omega) (by rw [xcat_sum, hnm]; show _ + (13 * (2 + 1) + 42) ≤ _; omega) (by rw [e2] at f3; have f3 : h.2.1 + 1 - C.2.2.2.1.1 ≤ C.1.2.2.2.cells := f3; omega) (by rw [e3] at f4; have f4 : h.2.2 + 6 - C.2.2.2.1.2 ≤ C.1.2.2.2.slots := f4; omega) hC.2.2.2.2.2.2.1 (fun t ha ht ho => ⟨by rw [xmu_own hK, hR.2.1]; rfl, rfl, Nat.le_succ_of_le hK, by rw [ht, hR.2.1]; show G.1 + (h.2.1 - 100) + 1 = G.1 + (h.2.1 + 1 - 100); omega, fun q hq9 => by rw [ho q (by rw [hR.2.1]; omega)]; exact hR.2.2.1 q hq9, fun a c hac => by
        obtain ⟨g1, g2, g3⟩ := hR.2.2.2 a c hac
        refine ⟨g1, Nat.lt_succ_of_lt g2, xAt.kept g3 (ho _ (xmu_lt hO hR g1 g2))⟩⟩) hq (by show _ ≤ h.2.1 + 1 - _; omega) (by show _ ≤ h.2.2 + 6 - _; omega) T hT XS
  rw [e1]
  exact k
end XHd
