section XSU
theorem xs_wp {Q : Unit → Pre} {E : CtlPost} {e : Env} {d : Bool} {acts : List Action} {s s₀ : State} {f : JFrame} {index ci n c : Nat} {m : MethodId} {dk ck : Class} {cf : ClassFile} {name desc : String} {via : Bool} (hs : s.topJava?.isSome) (hp : e.platform.polymorphicOnlyByInvokevirtual = true)
    (hW : s₀.WarmedH s.vm) (hE : s₀.MethodEntryUp e s.vm f.method.cls index c m ci) (h1 : s₀.vm.classes[f.method.cls]? = some dk) (h2 : dk.cf = some cf)
    (h3 : cf.constantPool[index]? = some (if via then .interfaceMethodref ci n else .methodref ci n)) (h4 : cf.constantPool.nameAndType? n = some (name, desc))
    (hck : s₀.vm.classes[c]? = some ck) (hnone : (ck.methods.any fun x => x.name == name && !x.isStatic && signaturePolymorphic ck x) = false) :
    wp (Op.invokestatic.sem index) Q E e d acts (s.setTop f) ↔ wp (Op.invokestatic.sem index) Q E e d acts ((s.setVm (s.vm.calledUp f.method.cls ci index c m)).setTop f) := by
  obtain ⟨hgc, -, hW₁, hgm⟩ := hE.classFirst
  obtain ⟨k₀, hk₀, he₀⟩ := hW.alike.2.2 _ _ h1
  obtain ⟨k₂, hk₂, he₂⟩ := hE.warmed.alike.2.2 _ _ h1
  obtain ⟨c₁, hc₁, hec₁⟩ := hW₁.alike.2.2 _ _ hck
  obtain ⟨c₂, hc₂, hec₂⟩ := hE.warmed.alike.2.2 _ _ hck
  have hb₀ := memberRef_ask_via (e := e) hk₀ (by rw [he₀]; exact h2) h3 h4
  have hb₂ := memberRef_ask_via (e := e) hk₂ (by rw [he₂]; exact h2) h3 h4
  have hn₁ : (c₁.methods.any fun x => x.name == name && !x.isStatic && signaturePolymorphic c₁ x) = false := by rw [hec₁]; exact hnone
  have hn₂ : (c₂.methods.any fun x => x.name == name && !x.isStatic && signaturePolymorphic c₂ x) = false := by rw [hec₂]; exact hnone
  have hs₁ : (s.setVm (s.vm.noted f.method.cls ci (.cls c))).topJava?.isSome := hs
  have hs₂ : (s.setVm (s.vm.calledUp f.method.cls ci index c m)).topJava?.isSome := hs
  have hL : ∀ {Q' : ClassId → Pre} {d' : Bool} {acts' : List Action}, wp (Jvm.resolveClassAt ci) Q' E e d' acts' (s.setTop f) ↔ Q' c d' acts' ((s.setVm (s.vm.noted f.method.cls ci (.cls c))).setTop f) :=
    W.resolveClassAt_links (t := s.setTop f) (State.method?_setTop f hs) hgc
  have hM : ∀ {Q' : MethodId → Pre} {d' : Bool} {acts' : List Action}, wp (Jvm.resolveMethodAt index) Q' E e d' acts' ((s.setVm (s.vm.noted f.method.cls ci (.cls c))).setTop f) ↔ Q' m d' acts' ((s.setVm (s.vm.calledUp f.method.cls ci index c m)).setTop f) :=
    W.resolveMethodAt_links (t := (s.setVm (s.vm.noted f.method.cls ci (.cls c))).setTop f) (State.method?_setTop f hs₁) hgm
  simp [Op.invokestatic.sem, hp, Seam.memberRefOf, State.method?_setTop f hs, State.method?_setTop f hs₂, hb₀, hb₂, hL, W.resolveClassAt_ready (s := (s.setVm (s.vm.calledUp f.method.cls ci index c m)).setTop f) (State.method?_setTop f hs₂) hE.classReady,
    hc₁, hc₂, hn₁, hn₂, hM, W.resolveMethodAt_ready (s := (s.setVm (s.vm.calledUp f.method.cls ci index c m)).setTop f) (State.method?_setTop f hs₂) hE.ready, -Array.any_eq_true]
theorem xs_up {p : Program} {l : Launch} {e : Env} {R : Room} {s : State} {m : MethodId} {args : Array Value} {below : List Frame} {meth : Method} {c : Code} {T : State} {locs : List Loc} {cells slots : Nat} (X : Stand p l e R s m args below meth c T locs cells slots) (hexec : p.tables.exec = Jvm.exec)
    {own owner : String} {index : Nat} {x : MethodName} (hown : s.vm.findClass own = some m.cls) (hlink : (Cond.methodLink own index x).before args s = true)
    (hsame : (Cond.sameMethod x.cls owner x.name x.desc).before args s = true) (howner : owner ≠ "java/lang/invoke/MethodHandle" ∧ owner ≠ "java/lang/invoke/VarHandle") (hxc : x.cls ≠ "java/lang/invoke/MethodHandle" ∧ x.cls ≠ "java/lang/invoke/VarHandle")
    {r0 : MethodId} {r : Method} {kr : Class} (hn : s.methodNamed? ⟨owner, x.name, x.desc⟩ = some r0) (hrm : s.vm.method? r0 = some r) (hstatic : r.isStatic = true) (hkr : s.vm.classes[r0.cls]? = some kr) (hinit : kr.init = .initialized)
    {g : JFrame} (hg : g.method = m) {argsL rest : List Value} (hlen : argsL.length = r.sig.parameters.length) (hstack : g.stack = argsL.reverse ++ rest)
    (hdg : decode c.code g.pc = .ok (.invokestatic index, 3)) :
    ∃ vm', Stand p l e R s m args below meth c (T.setVm vm') locs cells slots ∧
      ∀ target, (∀ acts, Steps p.tables e below (doInvoke e ((T.setVm vm').setTop { g with stack := rest }) acts r0 argsL.toArray).1 target) → Steps p.tables e below (T.setTop g) target := by
  have hpl : e.platform.magicAccessors = ({} : Platform).magicAccessors := by rw [X.admits.platform]
  have hpv : e.platform.polymorphicOnlyByInvokevirtual = true := by rw [X.admits.platform]
  obtain ⟨cn, ck, r1, hcn, hck, hni, hf, hn1⟩ := Cond.sameMethod_found hsame
  cases hn.symm.trans hn1
  obtain ⟨ci, hl, hright⟩ := Cond.methodLink_specUp hown hcn hck hni hf hlink e.platform hpl (by rw [X.admits.platform])
  have hE : s.MethodEntryUp e T.vm m.cls index cn r0 ci := State.methodEntryUp X.warmed hl hright
  obtain ⟨kr9, hkr9, hnr⟩ := className_of_methodNamed hn
  cases hkr.symm.trans hkr9
  obtain ⟨dk, cfile, nt, mname, mdesc, u1, u2, u3, hd, hcf, hcp, hnt, -⟩ := hl.here
  have alike := hE.warmed.alike
  obtain ⟨dk₂, hdk₂, hed⟩ := alike.2.2 _ _ hd
  obtain ⟨kr₂, hkr₂, her⟩ := alike.2.2 _ _ hkr
  obtain ⟨ck₂, hck₂, hec⟩ := alike.2.2 _ _ hck
  obtain ⟨ck9, hck9, hnm9⟩ := Vm.findClass_spec hcn
  cases hck.symm.trans hck9
  have hpoly : ∀ y : Method, signaturePolymorphic ck y = false := fun y => by simp [signaturePolymorphic, hnm9, hxc.1, hxc.2]
  have hpoly2 : ∀ y : Method, signaturePolymorphic kr y = false := fun y => by simp [signaturePolymorphic, hnr, howner.1, howner.2]
  have hnone : (ck.methods.any fun y => y.name == mname && !y.isStatic && signaturePolymorphic ck y) = false := by simp [hpoly]
  have hnone₂ : (ck₂.methods.any fun y => y.name == mname && !y.isStatic && signaturePolymorphic ck₂ y) = false := by rw [hec]; exact hnone
  refine ⟨T.vm.calledUp m.cls ci index cn r0, X.noted hE.warmed, fun target hrest => ?_⟩
  subst hg
  jvm_step X.here [hexec, hdg, xs_wp (e := e) (s := T) (s₀ := s) (f := g) (via := false) X.here.top hpv X.warmed hE hd hcf hcp hnt hck hnone,
    Op.invokestatic.wp_ready (e := e) (s := T.setVm (T.vm.calledUp g.method.cls ci index cn r0)) (k := kr₂) (meth := r) (m := r0) (args := argsL) (rest := rest) (f := g)
      X.here.top ⟨ci, mname, mdesc, false, cn, ck₂, memberRef_ask_via (e := e) (via := false) hdk₂ (by rw [hed]; exact hcf) hcp hnt, hE.classReady, hck₂, hnone₂⟩ hE.ready hkr₂
      (by show (T.vm.calledUp g.method.cls ci index cn r0).method? r0 = some r; rw [alike.method?]; exact hrm) (by rw [her]; exact hpoly2 r) hstatic (by rw [her]; exact hinit) hlen hstack]
  exact fun acts => hrest _
variable {G : xG} {C : xC} {M M' : xM} {pc : Nat} {lv : List (Nat × Value)} {st : List Value} {h h1 : mH} {r : Option Value}
/-- a static call of a method that the named class inherits -/
theorem x_callST {ix n : Nat} {x : MethodName} {As : List Value} (hX : XR G C.1.2.1 M' As h r h1) (hmd : xMD M' n) (hf : xFit M' M) (hx : x.name = M'.2.1.name ∧ x.desc = M'.2.1.desc) (hxc : x.cls ≠ "java/lang/invoke/MethodHandle" ∧ x.cls ≠ "java/lang/invoke/VarHandle")
    (w1 : Cond.methodLink M.2.1.cls ix x ∈ lw_all) (w0 : Cond.sameMethod x.cls M'.2.1.cls x.name x.desc ∈ lw_all) (w2 : Cond.static M'.2.1 ∈ lw_all) (w3 : Cond.initialized M'.2.1.cls ∈ lw_all) (w5 : Cond.code M'.2.1 M'.1 M'.2.2.1 M'.2.2.2.1 ∈ lw_all)
    (hn : As.length = n) (hst : (st.map fun v => v.category).sum ≤ 8) (hd : decode M.1 pc = .ok (.invokestatic ix, 3)) (kk : X G C M (pc + 3) lv (r.toList ++ st) h1) : X G C M pc lv (As.reverse ++ st) h := by
  refine x_go hX kk (fun hC ls H locs cells slots hsz hR hfit => ?_)
  rw [List.map_append, List.map_reverse]
  have hts := hC.2.2.2.2.1
  have hfr := xfit (h := h) (h1 := h1) hC hf
  have hK : Back C.1.2.1 C.1.2.2.2 C.1.1 C.1.2.2.1 C.2.1.2.2.2 C.2.1.1 C.2.1.2.2.1 M'.2.1 3 8 (PreOf C.1.2.2.2 (h1.2.1 - h.2.1) (h1.2.2 - h.2.2) (xPc G As h)) (PostOf (xQc G r h1) (h1.2.1 - h.2.1) (h1.2.2 - h.2.2) (xFr G)) :=
    back_of (bytes := M'.1) (maxL := M'.2.2.1) (ret := M'.2.2.2.1) (hX.2 hC.2.2.2.2.2.2.2.2.2.2.2.2.2.2) (xPc_blind _ _) rfl rfl hfr.1 hfr.2 (pay_in hts (lw_meth w5)) List.mem_cons_self (fun a' U hW => word_at hW (Or.inl rfl) (hts _ w3))
  obtain ⟨mk, hnamed⟩ := Cond.code_named (hts _ w5)
  obtain ⟨methM, cM, hmethM, -, -, -, -, -, -, hsigM⟩ := Cond.code_spec hnamed (hts _ w5)
  have hstatic : methM.isStatic = true := Cond.static_spec hnamed hmethM (hts _ w2)
  obtain ⟨kP, hkP, -⟩ := className_of_methodNamed hnamed
  have hinitP : kP.init = .initialized := Cond.initialized_spec (findClass_of_methodNamed hnamed) hkP (hts _ w3)
  have hnamed9 : C.2.1.1.methodNamed? ⟨M'.2.1.cls, x.name, x.desc⟩ = some mk := by rw [hx.1, hx.2]; exact hnamed
  have hlen9 : (As.map (xrv G)).length = methM.sig.parameters.length := by
    obtain ⟨-, -, hp⟩ := hmd
    rw [hsigM] at hp
    rw [List.length_map, hn]
    exact (Option.some.inj hp).symm
  intro T hT X
  obtain ⟨vm₁, X₁, hstep₁⟩ := xs_up X hC.1 hC.2.2.1 (hts _ w1) (hts _ w0) ⟨hmd.1, hmd.2.1⟩ hxc hnamed9 hmethM hstatic hkP hinitP (g := F0 C.2.1.2.1 pc ls ((As.map (xrv G)).reverse ++ st.map (xrv G))) rfl (argsL := As.map (xrv G)) (rest := st.map (xrv G)) hlen9 rfl (by rw [hC.2.1]; exact hd)
  obtain ⟨v, B, X', hpost, hsteps⟩ := hK C.2.1.2.1 C.2.2.1.1 C.2.2.1.2.1 ⟨T.setVm vm₁, locs, cells, slots⟩ { F0 C.2.1.2.1 pc ls ((As.map (xrv G)).reverse ++ st.map (xrv G)) with stack := st.map (xrv G) } (.invokestatic ix) mk (As.map (xrv G)).toArray X₁ rfl (hsz.trans hC.2.2.2.1.symm) (by rw [hC.2.1]; exact hd) (lv_room (by rw [xcat_sum]; exact hst)) (X₁.named hnamed) ⟨hfit.1, hfit.2, xPc_at hC hR As (T.setVm vm₁) hT X₁.warmed⟩
  obtain ⟨U', l2, c2, s2⟩ := B
  obtain ⟨g', mk9, t, L, e1, e2, hq, h1', hL, h2', h3'⟩ := hpost
  dsimp only [Pt.U, Pt.locs, Pt.cells, Pt.slots] at X' e1 e2 h1' h2' h3' hsteps
  subst h1'; subst h2'; subst h3'
  exact ⟨v, (T.setVm vm₁).calling g' mk9 (As.map (xrv G)).toArray, t, U', L, hT, X', hL, e1, e2, hq, fun target h => hstep₁ _ fun acts => by rw [doInvoke_state]; exact hsteps.trans h⟩
end XSU
