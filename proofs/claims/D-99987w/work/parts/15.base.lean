section XR2
variable {G : xG} {C : xC} {M M' : xM} {pc : Nat} {lv : List (Nat × Value)} {st : List Value} {h h1 : mH} {r : Option Value}
theorem x_ifnonnull {a : Nat} {off : Int} (tgt : Nat) (ha : a = 0 ∨ 6 ≤ a) (hd : decode M.1 pc = .ok (.ifnonnull off, 3)) (ht : (pc : Int) + off = (tgt : Int)) (k1 : ¬ a = 0 → X G C M tgt lv st h) (k2 : a = 0 → X G C M (pc + 3) lv st h) : X G C M pc lv (.ref a :: st) h := X.step2 k2 k1 (fun hC ls H locs cells slots b1 b2 => by
  show xW C H locs cells slots (F0 C.2.1.2.1 pc ls (va_rf (xro G a) :: st.map (xrv G)))
  rcases ha with e | e
  · subst e
    exact lv_ifnonnullN hC.1 hC.2.1 hd (b1 rfl)
  · rw [xro_hi e]
    exact lv_ifnonnull hC.1 hC.2.1 hd ht (b2 (by omega)))
theorem x_ifnull {a : Nat} {off : Int} (tgt : Nat) (ha : a = 0 ∨ 6 ≤ a) (hd : decode M.1 pc = .ok (.ifnull off, 3)) (ht : (pc : Int) + off = (tgt : Int)) (k1 : a = 0 → X G C M tgt lv st h) (k2 : ¬ a = 0 → X G C M (pc + 3) lv st h) : X G C M pc lv (.ref a :: st) h := X.step2 k1 k2 (fun hC ls H locs cells slots b1 b2 => by
  show xW C H locs cells slots (F0 C.2.1.2.1 pc ls (va_rf (xro G a) :: st.map (xrv G)))
  rcases ha with e | e
  · subst e
    exact lv_ifnullN hC.1 hC.2.1 hd ht (b1 rfl)
  · rw [xro_hi e]
    exact lv_ifnull hC.1 hC.2.1 hd (b2 (by omega)))
/-- two references that may be held against each other: one of them is null or an own cell -/
abbrev xCmp (a b : Nat) : Prop := a = b ∨ (a = 0 ∨ 6 ≤ a) ∧ (b = 0 ∨ 6 ≤ b) ∧ (a = b ∨ a = 0 ∨ b = 0 ∨ 100 ≤ a ∨ 100 ≤ b)
theorem xcmp_iff {a b : Nat} {U : State} (hO : xOut G U) (hc : xCmp a b) : xro G a = xro G b ↔ a = b := by
  rcases hc with rfl | hc
  · exact ⟨fun _ => rfl, fun _ => rfl⟩
  obtain ⟨ha, hb, hc⟩ := hc
  refine ⟨fun e => ?_, fun e => by rw [e]⟩
  rcases ha with ha | ha
  · rcases hb with hb | hb
    · omega
    · subst ha
      rw [xro_hi hb] at e
      cases e
  · rcases hb with hb | hb
    · subst hb
      rw [xro_hi ha] at e
      cases e
    · rw [xro_hi ha, xro_hi hb] at e
      have e := Option.some.inj e
      rcases hc with h | h | h | h | h
      · exact h
      · omega
      · omega
      · exact (xmu_inj hO h hb e.symm).symm
      · exact xmu_inj hO h ha e
theorem x_acmp_ne {a b : Nat} {off : Int} (tgt : Nat) (hc : xCmp a b) (hd : decode M.1 pc = .ok (.if_acmp .ne off, 3)) (ht : (pc : Int) + off = (tgt : Int)) (k1 : ¬ a = b → X G C M tgt lv st h) (k2 : a = b → X G C M (pc + 3) lv st h) : X G C M pc lv (.ref b :: .ref a :: st) h := X.step2 k2 k1 (fun hC ls H locs cells slots b1 b2 => by
  have hi := xcmp_iff hC.2.2.2.2.2.2.2.2.1.2.2.2.2.2 hc
  exact lv_acmp_ne hC.1 hC.2.1 hd ht (fun e => b2 (fun e9 => e (hi.mpr e9))) (fun e => b1 (hi.mp e)))
theorem x_acmp_eq {a b : Nat} {off : Int} (tgt : Nat) (hc : xCmp a b) (hd : decode M.1 pc = .ok (.if_acmp .eq off, 3)) (ht : (pc : Int) + off = (tgt : Int)) (k1 : a = b → X G C M tgt lv st h) (k2 : ¬ a = b → X G C M (pc + 3) lv st h) : X G C M pc lv (.ref b :: .ref a :: st) h := X.step2 k1 k2 (fun hC ls H locs cells slots b1 b2 => by
  have hi := xcmp_iff hC.2.2.2.2.2.2.2.2.1.2.2.2.2.2 hc
  exact lv_acmp_eq hC.1 hC.2.1 hd ht (fun e => b1 (hi.mp e)) (fun e => b2 (fun e9 => e (hi.mpr e9))))
/-- an object of a class of the list S -/
theorem x_obj {S : List Nat} {a : Nat} {nm : String} {U : State} {H : Heap} (hS : ∀ c ∈ S, xCast nm c) (hW : xWD G U) (hR : xHR G h H) (ha : gC h a ∈ S) : xrv G (.ref a) = .ref (xmu G a) ∧ ∃ q : vw_C, xCl[gC h a]? = some q ∧ (nm = q.1 ∨ va_Nw (.castable q.1 nm) U) ∧ (∃ cC, ClassAt U q.1 cC) ∧ ∃ cell : Cell, H[xmu G a]? = some cell ∧ cell.vm.isStatics = false ∧ U.vm.findClass q.1 = some cell.cls := by
  obtain ⟨q, hq, hn⟩ := hS _ ha
  obtain ⟨e, hr⟩ := x_rcv hW hR rfl hq
  refine ⟨e, q, hq, ?_, ⟨_, (hW.1.1 _ q hq).2⟩, hr⟩
  rcases hn with e | e
  · exact Or.inl e
  · exact Or.inr (hW.2.1 _ e rfl)
theorem x_cast {S : List Nat} {a ix : Nat} {nm : String} (hS : ∀ c ∈ S, xCast nm c) (hl : Cond.classLink M.2.1.cls ix nm ∈ lw_all) (ha : a = 0 ∨ gC h a ∈ S) (hd : decode M.1 pc = .ok (.checkcast ix, 3)) (kk : X G C M (pc + 3) lv (.ref a :: st) h) : X G C M pc lv (.ref a :: st) h := X.stepR kk (fun hC ls H locs cells slots hl9 hR kw => by
  rcases ha with e | e
  · subst e
    exact lv_castN hC.1 hC.2.1 hd kw
  · obtain ⟨e1, q, hq, hn, ⟨cC, hcC⟩, hr⟩ := x_obj hS hC.2.2.2.2.2.2.2.2.1 hR e
    have kw : xW C H locs cells slots (F0 C.2.1.2.1 (pc + 3) ls (xrv G (.ref a) :: st.map (xrv G))) := kw
    show xW C H locs cells slots (F0 C.2.1.2.1 pc ls (xrv G (.ref a) :: st.map (xrv G)))
    rw [e1] at kw ⊢
    rcases hn with hn | hn
    · subst hn
      exact va_castS hC.1 hC.2.1 hC.2.2.1 (hC.2.2.2.2.1 _ hl) hcC hr hd kw
    · exact va_castY hC.1 hC.2.1 hC.2.2.1 (hC.2.2.2.2.1 _ hl) hn hr hd kw)
theorem x_inst {S : List Nat} {a ix : Nat} {nm : String} (hS : ∀ c ∈ S, xCast nm c) (hl : Cond.classLink M.2.1.cls ix nm ∈ lw_all) (ha : gC h a ∈ S) (hd : decode M.1 pc = .ok (.instanceof ix, 3)) (kk : X G C M (pc + 3) lv (.int 1 :: st) h) : X G C M pc lv (.ref a :: st) h := X.stepR kk (fun hC ls H locs cells slots hl9 hR kw => by
  obtain ⟨e1, q, hq, hn, ⟨cC, hcC⟩, hr⟩ := x_obj hS hC.2.2.2.2.2.2.2.2.1 hR ha
  show xW C H locs cells slots (F0 C.2.1.2.1 pc ls (xrv G (.ref a) :: st.map (xrv G)))
  rw [e1]
  rcases hn with hn | hn
  · subst hn
    exact va_instS hC.1 hC.2.1 hC.2.2.1 (hC.2.2.2.2.1 _ hl) hcC hr hd kw
  · exact va_instY hC.1 hC.2.1 hC.2.2.1 (hC.2.2.2.2.1 _ hl) hn hr hd kw)
/-- a static call of a nest mate's private method -/
theorem x_callSN {ix n : Nat} {host : String} {As : List Value} (hX : XR G C.1.2.1 M' As h r h1) (hmd : xMD M' n) (hf : xFit M' M)
    (w1 : Cond.methodLinkNest M.2.1.cls ix M'.2.1 host ∈ lw_tbl) (w2 : Cond.static M'.2.1 ∈ lw_all) (w3 : Cond.initialized M'.2.1.cls ∈ lw_all) (w5 : Cond.code M'.2.1 M'.1 M'.2.2.1 M'.2.2.2.1 ∈ lw_all)
    (hn : As.length = n) (hst : (st.map fun v => v.category).sum ≤ 8) (hd : decode M.1 pc = .ok (.invokestatic ix, 3)) (kk : X G C M (pc + 3) lv (r.toList ++ st) h1) : X G C M pc lv (As.reverse ++ st) h := by
  refine x_go hX kk (fun hC ls H locs cells slots hsz hR hfit => ?_)
  rw [List.map_append, List.map_reverse]
  exact va_runSN (As := As.map (xrv G)) (rest := st.map (xrv G)) (g := F0 C.2.1.2.1 pc ls ((As.map (xrv G)).reverse ++ st.map (xrv G))) ⟨hC.1, hC.2.1, hC.2.2.2.1, hC.2.2.1, hC.2.2.2.2.1⟩ (hX.2 hC.2.2.2.2.2.2.2.2.2.2.2.2.2.2) ⟨va_cnB n hC.2.2.2.2.1 (lw_meth w5) rfl rfl rfl (hC.2.2.2.2.2.2.2.2.1.2.1 _ w1 rfl) (hC.2.2.2.2.1 _ w3) hmd (xfit hC hf), hC.2.2.2.2.1 _ w2, trivial⟩ ⟨xPc_blind _ _, xPc_at hC hR As⟩ rfl (by rw [List.length_map]; exact hn) hsz rfl (lv_room (by rw [xcat_sum]; exact hst)) hd hfit
/-- a nest mate's private constructor -/
theorem x_callIN {ix n b : Nat} {host : String} {As : List Value} (hX : XR G C.1.2.1 M' (.ref b :: As) h none h1) (hb : 6 ≤ b) (hmd : xMD M' n) (hf : xFit M' M) (hin : M'.2.1.name = "<init>") (hret : M'.2.2.2.1 = none)
    (w1 : Cond.methodLinkNest M.2.1.cls ix M'.2.1 host ∈ lw_tbl) (w2 : Cond.instanceMethod M'.2.1 ∈ lw_all) (w4 : Cond.initialized M'.2.1.cls ∈ lw_all) (w5 : Cond.code M'.2.1 M'.1 M'.2.2.1 none ∈ lw_all)
    (hn : As.length = n) (hst : (st.map fun v => v.category).sum ≤ 8) (hd : decode M.1 pc = .ok (.invokespecial ix, 3)) (kk : X G C M (pc + 3) lv st h1) : X G C M pc lv (As.reverse ++ .ref b :: st) h := by
  refine x_go (r := none) hX kk (fun hC ls H locs cells slots hsz hR hfit => ?_)
  have e : xrv G (.ref b) = .ref (xmu G b) := xrv_hi hb
  rw [xst_eq e]
  have hM := hX.2 hC.2.2.2.2.2.2.2.2.2.2.2.2.2.2
  rw [hret] at hM
  rw [List.map_cons, e]
  exact va_runIN (As := As.map (xrv G)) (rest := st.map (xrv G)) (g := F0 C.2.1.2.1 pc ls ((As.map (xrv G)).reverse ++ .ref (xmu G b) :: st.map (xrv G))) ⟨hC.1, hC.2.1, hC.2.2.2.1, hC.2.2.1, hC.2.2.2.2.1⟩ hM ⟨va_cnB n hC.2.2.2.2.1 (lw_meth w5) rfl rfl rfl (hC.2.2.2.2.2.2.2.2.1.2.1 _ w1 rfl) (hC.2.2.2.2.1 _ w4) hmd (xfit hC hf), hin, hC.2.2.2.2.1 _ w2⟩ ⟨xPc_blind _ _, fun U hU hW => by
    have h9 := xPc_at hC hR (.ref b :: As) U hU hW
    rw [List.map_cons, e] at h9
    exact h9⟩ rfl (by rw [List.length_map]; exact hn) hsz rfl (lv_room (by rw [xcat_sum]; exact hst)) hd hfit
/-- what a call up the classes asks: the method as spelled, whose it is, which is chosen for the receiver's class -/
def xUp (own : String) (ix : Nat) (x : MethodName) (owner : String) (D : String) (y : MethodName) : Prop := Cond.methodLink own ix x ∈ lw_all ∧ Cond.sameMethod x.cls owner x.name x.desc ∈ lw_all ∧ Cond.selects D x y ∈ lw_all ∧ Cond.instanceMethod y ∈ lw_all ∧ Cond.initialized y.cls ∈ lw_all ∧ (Cond.declares ⟨owner, x.name, x.desc⟩ ∈ lw_tbl ∨ (Cond.instanceMethod ⟨owner, x.name, x.desc⟩ ∈ lw_all ∧ ∃ (b : ByteArray) (m : Nat) (r : Option FieldType), Cond.code ⟨owner, x.name, x.desc⟩ b m r ∈ lw_all)) ∧ owner ≠ "java/lang/invoke/MethodHandle" ∧ owner ≠ "java/lang/invoke/VarHandle"
theorem x_cuU {ix n : Nat} {D owner : String} {x : MethodName} {rm : Room} {mc ms : Nat} (hC : xOK G C M) (hu : xUp M.2.1.cls ix x owner D M'.2.1) (hxn : (parseMethodDescriptor x.desc).map (fun d => d.parameters.length) = some n) (hrc : rm.cells = mc) (hrs : rm.slots = ms) (hR : rm.frames + 1 ≤ C.1.2.2.2.frames ∧ 8 + (M'.2.2.1 + 11) + rm.locals ≤ C.1.2.2.2.locals) (w5 : Cond.code M'.2.1 M'.1 M'.2.2.1 M'.2.2.2.1 ∈ lw_all) :
    va_CU C.1.2.2.2 C.2.1.1 C.2.1.2.2.1 M.2.1.cls D owner ix x M'.2.1 M'.1 M'.2.2.1 M'.2.2.2.1 (ws_ M'.2.1 M'.1 M'.2.2.1 M'.2.2.2.1) rm mc ms n := by
  obtain ⟨h1, h2, h3, h4, h5, h6, h7, h8⟩ := hu
  have hts := hC.2.2.2.2.1
  refine ⟨⟨hrc, hrs, hR.1, hR.2, pay_in hts (lw_meth w5), List.mem_cons_self⟩, hts _ w5, hts _ h5, ⟨h7, h8⟩, fun sig hsig => ?_, hts _ h1, hts _ h2, ?_, hts _ h3, hts _ h4⟩
  · rw [hsig] at hxn
    exact (Option.some.inj hxn).symm
  · rcases h6 with e | ⟨e, b, m, r, e2⟩
    · exact va_Decl.abs (hC.2.2.2.2.2.2.2.2.1.2.1 _ e rfl)
    · exact va_Decl.of (hts _ e) (hts _ e2)
/-- .. whichever of the classes S the receiver is of -/
def xUpS (own : String) (ix : Nat) (x : MethodName) (owner : String) (S : List Nat) (y : MethodName) : Prop := ∀ c ∈ S, ∃ q : vw_C, xCl[c]? = some q ∧ xUp own ix x owner q.1 y
/-- a call of an inherited, overridden or abstract method: the receiver's class chooses -/
theorem x_callU {ix n b : Nat} {S : List Nat} {x : MethodName} {owner : String} {As : List Value} (hX : XR G C.1.2.1 M' (.ref b :: As) h r h1) (hb : gC h b ∈ S) (hu : xUpS M.2.1.cls ix x owner S M'.2.1) (hxn : (parseMethodDescriptor x.desc).map (fun d => d.parameters.length) = some n) (hf : xFit M' M) (w5 : Cond.code M'.2.1 M'.1 M'.2.2.1 M'.2.2.2.1 ∈ lw_all)
    (hn : As.length = n) (hst : (st.map fun v => v.category).sum ≤ 8) (hd : decode M.1 pc = .ok (.invokevirtual ix, 3)) (kk : X G C M (pc + 3) lv (r.toList ++ st) h1) : X G C M pc lv (As.reverse ++ .ref b :: st) h := by
  refine x_go hX kk (fun hC ls H locs cells slots hsz hR hfit => ?_)
  have hWD := hC.2.2.2.2.2.2.2.2.1
  obtain ⟨q, hq, hu⟩ := hu _ hb
  obtain ⟨e, hrc⟩ := x_rcv hWD hR rfl hq
  rw [xst_eq e]
  rw [List.map_cons, e]
  exact va_runU (As := As.map (xrv G)) (rest := st.map (xrv G)) (g := F0 C.2.1.2.1 pc ls ((As.map (xrv G)).reverse ++ .ref (xmu G b) :: st.map (xrv G))) ⟨hC.1, hC.2.1, hC.2.2.2.1, hC.2.2.1, hC.2.2.2.2.1⟩ (hX.2 hC.2.2.2.2.2.2.2.2.2.2.2.2.2.2) (x_cuU hC hu hxn rfl rfl (xfit hC hf) w5) ⟨xPc_blind _ _, hrc, fun U hU hW => by
    have h9 := xPc_at hC hR (.ref b :: As) U hU hW
    rw [List.map_cons, e] at h9
    exact h9⟩ rfl (by rw [List.length_map]; exact hn) hsz rfl (lv_room (by rw [xcat_sum]; exact hst)) hd hfit
/-- .. where the named class has the method's code itself -/
def xUpC (own : String) (ix : Nat) (x : MethodName) (S : List Nat) : Prop := Cond.methodLink own ix x ∈ lw_all ∧ Cond.sameMethod x.cls x.cls x.name x.desc ∈ lw_all ∧ Cond.instanceMethod x ∈ lw_all ∧ Cond.initialized x.cls ∈ lw_all ∧ (x.cls ≠ "java/lang/invoke/MethodHandle" ∧ x.cls ≠ "java/lang/invoke/VarHandle") ∧ ∀ c ∈ S, ∃ q : vw_C, xCl[c]? = some q ∧ (Cond.selects q.1 x x ∈ lw_all ∨ Cond.selects q.1 x x ∈ xNx)
theorem x_cuC {ix n : Nat} {S : List Nat} {b : Nat} {rm : Room} {mc ms : Nat} (hC : xOK G C M) (hu : xUpC M.2.1.cls ix M'.2.1 S) (hb : gC h b ∈ S) (hxn : (parseMethodDescriptor M'.2.1.desc).map (fun d => d.parameters.length) = some n) (hrc : rm.cells = mc) (hrs : rm.slots = ms) (hR : rm.frames + 1 ≤ C.1.2.2.2.frames ∧ 8 + (M'.2.2.1 + 11) + rm.locals ≤ C.1.2.2.2.locals) (w5 : Cond.code M'.2.1 M'.1 M'.2.2.1 M'.2.2.2.1 ∈ lw_all) :
    ∃ q : vw_C, xCl[gC h b]? = some q ∧ va_CU C.1.2.2.2 C.2.1.1 C.2.1.2.2.1 M.2.1.cls q.1 M'.2.1.cls ix M'.2.1 M'.2.1 M'.1 M'.2.2.1 M'.2.2.2.1 (ws_ M'.2.1 M'.1 M'.2.2.1 M'.2.2.2.1) rm mc ms n := by
  obtain ⟨h1, h2, h3, h4, h5, h6⟩ := hu
  obtain ⟨q, hq, hs⟩ := h6 _ hb
  have hts := hC.2.2.2.2.1
  refine ⟨q, hq, ⟨hrc, hrs, hR.1, hR.2, pay_in hts (lw_meth w5), List.mem_cons_self⟩, hts _ w5, hts _ h4, h5, fun sig hsig => ?_, hts _ h1, hts _ h2, va_Decl.of (hts _ h3) (hts _ w5), ?_, hts _ h3⟩
  · rw [hsig] at hxn
    exact (Option.some.inj hxn).symm
  · rcases hs with e | e
    · exact hts _ e
    · have hb9 : (Cond.selects q.1 M'.2.1 M'.2.1).onTables = true := rfl
      exact va_Nw.use hb9 (hC.2.2.2.2.2.2.2.2.1.2.2.2.2.2.2.2.2.2.1 _ e)
theorem x_callC {ix n b : Nat} {S : List Nat} {As : List Value} (hX : XR G C.1.2.1 M' (.ref b :: As) h r h1) (hb : gC h b ∈ S) (hu : xUpC M.2.1.cls ix M'.2.1 S) (hxn : (parseMethodDescriptor M'.2.1.desc).map (fun d => d.parameters.length) = some n) (hf : xFit M' M) (w5 : Cond.code M'.2.1 M'.1 M'.2.2.1 M'.2.2.2.1 ∈ lw_all)
    (hn : As.length = n) (hst : (st.map fun v => v.category).sum ≤ 8) (hd : decode M.1 pc = .ok (.invokevirtual ix, 3)) (kk : X G C M (pc + 3) lv (r.toList ++ st) h1) : X G C M pc lv (As.reverse ++ .ref b :: st) h := by
  refine x_go hX kk (fun hC ls H locs cells slots hsz hR hfit => ?_)
  have hWD := hC.2.2.2.2.2.2.2.2.1
  obtain ⟨q, hq, cu⟩ := x_cuC (rm := xRm M'.2.2.2.2 h h1) (mc := h1.2.1 - h.2.1) (ms := h1.2.2 - h.2.2) hC hu hb hxn rfl rfl (xfit hC hf) w5
  obtain ⟨e, hrc⟩ := x_rcv hWD hR rfl hq
  rw [xst_eq e]
  rw [List.map_cons, e]
  exact va_runU (As := As.map (xrv G)) (rest := st.map (xrv G)) (g := F0 C.2.1.2.1 pc ls ((As.map (xrv G)).reverse ++ .ref (xmu G b) :: st.map (xrv G))) ⟨hC.1, hC.2.1, hC.2.2.2.1, hC.2.2.1, hC.2.2.2.2.1⟩ (hX.2 hC.2.2.2.2.2.2.2.2.2.2.2.2.2.2) cu ⟨xPc_blind _ _, hrc, fun U hU hW => by
    have h9 := xPc_at hC hR (.ref b :: As) U hU hW
    rw [List.map_cons, e] at h9
    exact h9⟩ rfl (by rw [List.length_map]; exact hn) hsz rfl (lv_room (by rw [xcat_sum]; exact hst)) hd hfit
/-- super.m(..) -/
theorem x_callSU {ix n b ci : Nat} {As : List Value} {q : vw_C} (hX : XR G C.1.2.1 M' (.ref b :: As) h r h1) (hb : gC h b = ci) (hq : xCl[ci]? = some q) (hf : xFit M' M) (hnm : M'.2.1.name ≠ "<init>") (hxn : (parseMethodDescriptor M'.2.1.desc).map (fun d => d.parameters.length) = some n)
    (w1 : Cond.methodLink M.2.1.cls ix M'.2.1 ∈ lw_all) (w2 : Cond.sameMethod M'.2.1.cls M'.2.1.cls M'.2.1.name M'.2.1.desc ∈ lw_all) (w3 : Cond.superclass M.2.1.cls M'.2.1.cls ∈ lw_all) (w4 : Cond.instanceMethod M'.2.1 ∈ lw_all) (w6 : Cond.initialized M'.2.1.cls ∈ lw_all) (w5 : Cond.code M'.2.1 M'.1 M'.2.2.1 M'.2.2.2.1 ∈ lw_all)
    (hn : As.length = n) (hst : (st.map fun v => v.category).sum ≤ 8) (hd : decode M.1 pc = .ok (.invokespecial ix, 3)) (kk : X G C M (pc + 3) lv (r.toList ++ st) h1) : X G C M pc lv (As.reverse ++ .ref b :: st) h := by
  refine x_go hX kk (fun hC ls H locs cells slots hsz hR hfit => ?_)
  have hWD := hC.2.2.2.2.2.2.2.2.1
  obtain ⟨e, hrc⟩ := x_rcv hWD hR hb hq
  rw [xst_eq e]
  rw [List.map_cons, e]
  have hg : GoodIn lw_all (va_wsSU M.2.1.cls ix M'.2.1 (ws_ M'.2.1 M'.1 M'.2.2.1 M'.2.2.2.1)) := by
    refine lw_app ?_ (lw_meth w5)
    intro w hw
    simp only [List.mem_cons, List.not_mem_nil, or_false] at hw
    rcases hw with e | e | e | e | e <;> rw [e] <;> assumption
  exact va_runSU (As := As.map (xrv G)) (rest := st.map (xrv G)) (g := F0 C.2.1.2.1 pc ls ((As.map (xrv G)).reverse ++ .ref (xmu G b) :: st.map (xrv G))) (hWD.1.1 _ q hq).2 ⟨hC.1, hC.2.1, hC.2.2.2.1, hC.2.2.1, hC.2.2.2.2.1⟩ (hX.2 hC.2.2.2.2.2.2.2.2.2.2.2.2.2.2) (va_cwSU n hC.2.2.2.2.1 hg rfl rfl rfl ⟨hnm, hxn⟩ (xfit hC hf)) ⟨xPc_blind _ _, hrc, fun U hU hW => by
    have h9 := xPc_at hC hR (.ref b :: As) U hU hW
    rw [List.map_cons, e] at h9
    exact h9⟩ rfl (by rw [List.length_map]; exact hn) hsz rfl (lv_room (by rw [xcat_sum]; exact hst)) hd hfit
/-- a String constant -/
theorem x_ldcS {ix a : Nat} {tx : String} (hq : (M.2.1.cls, ix, tx, a) ∈ xStr) (ha : 6 ≤ a) (ha2 : a < 100) (hd : decode M.1 pc = .ok (.ldc ix, 2)) (kk : X G C M (pc + 2) lv (.ref a :: st) h) : X G C M pc lv st h := X.step kk (fun hC ls H locs cells slots hl k => by
  have k : xW C H locs cells slots (F0 C.2.1.2.1 (pc + 2) ls (xrv G (.ref a) :: st.map (xrv G))) := k
  rw [xrv_hi ha, show xmu G a = G.2.1 a by unfold xmu; rw [if_pos (show a < xK from ha2)]] at k
  exact va_ldcS hC.1 hC.2.1 hC.2.2.1 (hC.2.2.2.2.2.2.2.2.1.2.2.2.2.2.2.2.1 _ hq) hd k)
/-- a static that nobody writes -/
theorem x_gets {ix : Nat} {D n d : String} {v : Value} (hq : (D, n, d, v) ∈ xSta) (hl : Cond.fieldLink M.2.1.cls ix D n d ∈ lw_all) (hd : decode M.1 pc = .ok (.getstatic ix, 3)) (kk : X G C M (pc + 3) lv (v :: st) h) : X G C M pc lv st h := X.stepR kk (fun hC ls H locs cells slots hl9 hR kw => by
  have hO : xOut G C.2.1.1 := hC.2.2.2.2.2.2.2.2.1.2.2.2.2.2
  have hZ := (hO.2.2.2.1 _ hq).kept (H1 := H) (fun a ha hn => hR.2.2.1 a (by rw [hO.1]; exact ha))
  obtain ⟨cf, kf, fi, f, a, cell, h1, h2, h3, h4, h5, h6, h7, h8⟩ := hZ
  exact W.gets hC.1 hC.2.1 hC.2.2.1 (hC.2.2.2.2.1 _ hl) h1 h2 h3 h4 h5 (fun e => by rw [e] at h6; cases h6) h7 rfl hd kw)
/-- Math.min, Math.max -/
theorem x_mmin {ix : Nat} {x y : Int32} (hf : 1 ≤ M.2.2.2.2) (w1 : Cond.methodLink M.2.1.cls ix Lib.Math.min.name ∈ lw_all) (w2 : Cond.static Lib.Math.min.name ∈ lw_all) (w3 : Cond.initialized "java/lang/Math" ∈ lw_all) (w4 : Cond.code Lib.Math.min.name Lib.Math.min.code 2 (some .int) ∈ lw_all) (hst : (st.map fun v => v.category).sum ≤ 8) (hd : decode M.1 pc = .ok (.invokestatic ix, 3)) (kk : X G C M (pc + 3) lv (.int (if y < x then y else x) :: st) h) : X G C M pc lv (.int y :: .int x :: st) h := by
  refine ⟨kk.1, fun hC b1 b2 ls H locs hl hR hq => ?_⟩
  obtain ⟨-, -, -, -, -, -, -, -, -, -, f1, f2, f3, f4, -⟩ := id hC
  have hts := hC.2.2.2.2.1
  have k1 := kk.1
  exact va_mmin hC.1 hC.2.1 (hC.2.2.2.1.trans hl.1.symm) hC.2.2.1 (hts _ w1) (hts _ w2) (hts _ w3) (hts _ w4) (Nat.le_trans hf f1) (by rw [xcat_sum]; omega) (by omega) (by omega) hd (kk.2 hC b1 b2 ls H locs hl hR hq)
theorem x_mmax {ix : Nat} {x y : Int32} (hf : 1 ≤ M.2.2.2.2) (w1 : Cond.methodLink M.2.1.cls ix Lib.Math.max.name ∈ lw_all) (w2 : Cond.static Lib.Math.max.name ∈ lw_all) (w3 : Cond.initialized "java/lang/Math" ∈ lw_all) (w4 : Cond.code Lib.Math.max.name Lib.Math.max.code 2 (some .int) ∈ lw_all) (hst : (st.map fun v => v.category).sum ≤ 8) (hd : decode M.1 pc = .ok (.invokestatic ix, 3)) (kk : X G C M (pc + 3) lv (.int (if x < y then y else x) :: st) h) : X G C M pc lv (.int y :: .int x :: st) h := by
  refine ⟨kk.1, fun hC b1 b2 ls H locs hl hR hq => ?_⟩
  obtain ⟨-, -, -, -, -, -, -, -, -, -, f1, f2, f3, f4, -⟩ := id hC
  have hts := hC.2.2.2.2.1
  have k1 := kk.1
  exact va_mmax hC.1 hC.2.1 (hC.2.2.2.1.trans hl.1.symm) hC.2.2.1 (hts _ w1) (hts _ w2) (hts _ w3) (hts _ w4) (Nat.le_trans hf f1) (by rw [xcat_sum]; omega) (by omega) (by omega) hd (kk.2 hC b1 b2 ls H locs hl hR hq)
theorem xrv_mi {mi : Nat} (m1 : G.2.2.1.1 5 = some mi) : xrv G (.ref 5) = .ref mi := by
  show va_rf (xro G 5) = _
  unfold xro
  rw [if_neg (by decide), if_pos (by decide), m1]
  rfl
/-- Object[].class, and getClass() of an Object[] -/
theorem x_ldcM {ix : Nat} (w : Cond.classLink M.2.1.cls ix "[Ljava/lang/Object;" ∈ lw_all) (hd : decode M.1 pc = .ok (.ldc ix, 2)) (kk : X G C M (pc + 2) lv (.ref 5 :: st) h) : X G C M pc lv st h := X.step kk (fun hC ls H locs cells slots hl k => by
  obtain ⟨mi, m1, m2⟩ := hC.2.2.2.2.2.2.2.2.1.2.2.2.2.2.2.2.2.2.2.1
  have k : xW C H locs cells slots (F0 C.2.1.2.1 (pc + 2) ls (xrv G (.ref 5) :: st.map (xrv G))) := k
  rw [xrv_mi m1] at k
  exact va_ldcM hC.1 hC.2.1 hC.2.2.1 (hC.2.2.2.2.1 _ w) m2 hd k)
def gK (h : mH) (r : Nat) : Bool := match h.1 r with
  | some (.inl (t, _, _)) => t == .object "java/lang/Object"
  | _ => false
theorem gK_spec {r : Nat} (hr : gK h r = true) : ∃ (n : Nat) (a : mA), h.1 r = some (.inl (.object "java/lang/Object", n, a)) := by
  unfold gK at hr
  split at hr
  · rename_i t n a h1
    have e : t = .object "java/lang/Object" := by simpa using hr
    subst e
    exact ⟨n, a, h1⟩
  · cases hr
theorem x_getC {ix r : Nat} (hr : gK h r = true ∧ 100 ≤ r) (hf : 1 ≤ M.2.2.2.2) (w1 : Cond.methodLink M.2.1.cls ix ⟨"java/lang/Object", "getClass", "()Ljava/lang/Class;"⟩ ∈ lw_all) (w2 : Cond.declares ⟨"java/lang/Object", "getClass", "()Ljava/lang/Class;"⟩ ∈ lw_tbl) (w3 : Cond.selects "[Ljava/lang/Object;" ⟨"java/lang/Object", "getClass", "()Ljava/lang/Class;"⟩ ⟨"java/lang/Object", "getClass", "()Ljava/lang/Class;"⟩ ∈ lw_all) (w4 : Cond.instanceMethod ⟨"java/lang/Object", "getClass", "()Ljava/lang/Class;"⟩ ∈ lw_all) (w5 : Cond.native ⟨"java/lang/Object", "getClass", "()Ljava/lang/Class;"⟩ ∈ lw_all) (hst : (st.map fun v => v.category).sum ≤ 8) (hd : decode M.1 pc = .ok (.invokevirtual ix, 3)) (kk : X G C M (pc + 3) lv (.ref 5 :: st) h) : X G C M pc lv (.ref r :: st) h := X.stepR kk (fun hC ls H locs cells slots hl hR kw => by
  obtain ⟨n, a, h1⟩ := gK_spec hr.1
  obtain ⟨a1, a2, a3⟩ := hR.2.2.2 r _ h1
  have a3 : H[xmu G r]? = some (vp_cell (G.2.2.2.2.1 (.object "java/lang/Object")) (xra G n a)) := xAt.at hr.2 a3
  have hWD := hC.2.2.2.2.2.2.2.2.1
  have hts := hC.2.2.2.2.1
  show xW C H locs cells slots (F0 C.2.1.2.1 pc ls (xrv G (.ref r) :: st.map (xrv G)))
  rw [xrv_hi a1]
  obtain ⟨-, -, -, -, -, -, -, -, -, -, f1, f2, -, -, -⟩ := id hC
  obtain ⟨kA, comp, k1, k2, k3, k4⟩ := (hWD.arr (t := .object "java/lang/Object") (by decide)).2
  obtain ⟨mi, m1, m2⟩ := hWD.2.2.2.2.2.2.2.2.2.2.1
  have kw : xW C H locs cells slots (F0 C.2.1.2.1 (pc + 3) ls (xrv G (.ref 5) :: st.map (xrv G))) := kw
  rw [xrv_mi m1] at kw
  refine va_getC hC.1 hC.2.1 (hC.2.2.2.1.trans hl.1.symm) hC.2.2.1 (hts _ w1) (va_Nw.use rfl (hWD.2.1 _ w2 rfl)) (hts _ w3) (hts _ w4) (hts _ w5) m2 ⟨_, a3, ?_, ?_⟩ (Nat.le_trans hf f1) (by rw [xcat_sum]; omega) hd kw
  · cases a with
    | inl f => rfl
    | inr a => cases a <;> rfl
  · cases a with
    | inl f => exact k4
    | inr a => cases a <;> exact k4)
end XR2
