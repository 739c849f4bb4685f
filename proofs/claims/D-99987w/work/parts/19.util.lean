set_option maxRecDepth 100000
def xFu : Nat := 100000
theorem ob {α β : Type} {x : Option α} {f : α → Option β} {b : β} (h : x.bind f = some b) : ∃ a, x = some a ∧ f a = some b := Option.bind_eq_some_iff.mp h
theorem oit {c : Prop} [Decidable c] {α : Type} {x : Option α} {b : α} (h : (if c then x else none) = some b) : c ∧ x = some b := by
  split at h
  · exact ⟨by assumption, h⟩
  · cases h
theorem oif {c : Prop} [Decidable c] {α : Type} {x : Option α} {b : α} (h : (if c then none else x) = some b) : ¬ c ∧ x = some b := by
  split at h
  · cases h
  · exact ⟨by assumption, h⟩
def bR {α β γ : Type} (x : Option (α × γ)) (k : α → γ → Option β) : Option β := match x with
  | none => none
  | some (v, h) => k v h
theorem obR {α β γ : Type} {x : Option (α × γ)} {k : α → γ → Option β} {b : β} (h : bR x k = some b) : ∃ v g, x = some (v, g) ∧ k v g = some b := by
  unfold bR at h
  split at h
  · cases h
  · exact ⟨_, _, rfl, h⟩
def pF2 (S1 : List Nat) (k1 : Nat) (S2 : List Nat) (k2 : Nat) (v : Value) (h : mH) (r : Nat) : Option mH := if gC h r ∈ S1 then pF S1 k1 v h r else pF S2 k2 v h r
theorem x_putf2 {G : xG} {C : xC} {M : xM} {pc : Nat} {lv : List (Nat × Value)} {st : List Value} {h : mH} {S1 S2 : List Nat} {k1 k2 ix r : Nat} {v : Value} {t : FieldType} {h' : mH} (hF1 : xPd M.2.1.cls ix S1 k1 t M.2.1.name) (hF2 : xPd M.2.1.cls ix S2 k2 t M.2.1.name) (hn : narrow t v = v) (hf : fits t v = true) (hv : pF2 S1 k1 S2 k2 v h r = some h') (hd : decode M.1 pc = .ok (.putfield ix, 3)) (kk : X G C M (pc + 3) lv st h') : X G C M pc lv (v :: .ref r :: st) h := by
  unfold pF2 at hv
  split at hv
  · exact x_putf hF1 hn hf hv hd kk
  · exact x_putf hF2 hn hf hv hd kk
def rZ (x : Int32) (h : mH) : Option (Int32 × mH) := if x = 0 ∨ x = 1 then some (x, h) else none
def rB (x : Int32) (h : mH) : Option (Int32 × mH) := if x.toInt8.toInt32 = x then some (x, h) else none
def rC (x : Int32) (h : mH) : Option (Int32 × mH) := if (x.toUInt32 % 65536).toInt32 = x then some (x, h) else none
theorem nzZ {x : Int32} (c : x = 0 ∨ x = 1) : narrow .boolean (.int x) = .int x := by
  rcases c with rfl | rfl <;> rfl
theorem fzZ {x : Int32} (c : x = 0 ∨ x = 1) : fits .boolean (.int x) = true := by
  rcases c with rfl | rfl <;> rfl
theorem nzB {x : Int32} (c : x.toInt8.toInt32 = x) : narrow .byte (.int x) = .int x := by
  rw [← c]
  exact pk_nb x
theorem fzB {x : Int32} (c : x.toInt8.toInt32 = x) : fits .byte (.int x) = true := by
  rw [← c]
  exact pk_fb x
theorem rZ_spec {x : Int32} {h : mH} {o : Int32 × mH} (H : rZ x h = some o) : narrow .boolean (.int x) = .int x ∧ (x, h) = o := by
  obtain ⟨c, H⟩ := oit H
  exact ⟨nzZ c, Option.some.inj H⟩
theorem rB_spec {x : Int32} {h : mH} {o : Int32 × mH} (H : rB x h = some o) : narrow .byte (.int x) = .int x ∧ (x, h) = o := by
  obtain ⟨c, H⟩ := oit H
  exact ⟨nzB c, Option.some.inj H⟩
theorem rC_spec {x : Int32} {h : mH} {o : Int32 × mH} (H : rC x h = some o) : narrow .char (.int x) = .int x ∧ (x, h) = o := by
  obtain ⟨c, H⟩ := oit H
  refine ⟨?_, Option.some.inj H⟩
  rw [← c]
  exact pk_nc x
def bT {α β : Type} (x : Option ((α ⊕ Nat) × mH)) (k : α → mH → Option ((β ⊕ Nat) × mH)) : Option ((β ⊕ Nat) × mH) := match x with
  | none => none
  | some (.inl v, h) => k v h
  | some (.inr a, h) => some (.inr a, h)
def bH {α β : Type} (x : Option ((α ⊕ Nat) × mH)) (kx : Nat → mH → Option (β × mH)) (k : α → mH → Option (β × mH)) : Option (β × mH) := match x with
  | none => none
  | some (.inl v, h) => k v h
  | some (.inr a, h) => kx a h
theorem obH {α β : Type} {x : Option ((α ⊕ Nat) × mH)} {kx : Nat → mH → Option (β × mH)} {k : α → mH → Option (β × mH)} {o : β × mH} (h : bH x kx k = some o) : (∃ a h1, x = some (.inr a, h1) ∧ kx a h1 = some o) ∨ ∃ v h1, x = some (.inl v, h1) ∧ k v h1 = some o := by
  unfold bH at h
  split at h
  · cases h
  · exact Or.inr ⟨_, _, rfl, h⟩
  · exact Or.inl ⟨_, _, rfl, h⟩
theorem obT {α β : Type} {x : Option ((α ⊕ Nat) × mH)} {k : α → mH → Option ((β ⊕ Nat) × mH)} {o : (β ⊕ Nat) × mH} (h : bT x k = some o) : (∃ a h1, x = some (.inr a, h1) ∧ (.inr a, h1) = o) ∨ ∃ v h1, x = some (.inl v, h1) ∧ k v h1 = some o := by
  unfold bT at h
  split at h
  · cases h
  · exact Or.inr ⟨_, _, rfl, h⟩
  · exact Or.inl ⟨_, _, rfl, Option.some.inj h⟩
def xoU (E : String) (o : Unit ⊕ Nat) : xO := match o with
  | .inl _ => .inl none
  | .inr a => .inr (a, E)
def xoI (E : String) (o : Int32 ⊕ Nat) : xO := match o with
  | .inl v => .inl (some (.int v))
  | .inr a => .inr (a, E)
def xoA (E : String) (o : Nat ⊕ Nat) : xO := match o with
  | .inl v => .inl (some (.ref v))
  | .inr a => .inr (a, E)
theorem xS1 {P : Nat → Prop} (a0 : Nat) (h0 : P a0) : ∀ c ∈ [a0], P c := by
  intro c hc
  simp only [List.mem_cons, List.not_mem_nil, or_false] at hc
  rw [hc]; exact h0
theorem xS2 {P : Nat → Prop} (a0 a1 : Nat) (h0 : P a0) (h1 : P a1) : ∀ c ∈ [a0, a1], P c := by
  intro c hc
  simp only [List.mem_cons, List.not_mem_nil, or_false] at hc
  rcases hc with rfl | rfl
  · exact h0
  · exact h1
theorem xS3 {P : Nat → Prop} (a0 a1 a2 : Nat) (h0 : P a0) (h1 : P a1) (h2 : P a2) : ∀ c ∈ [a0, a1, a2], P c := by
  intro c hc
  simp only [List.mem_cons, List.not_mem_nil, or_false] at hc
  rcases hc with rfl | rfl | rfl
  · exact h0
  · exact h1
  · exact h2
theorem xS4 {P : Nat → Prop} (a0 a1 a2 a3 : Nat) (h0 : P a0) (h1 : P a1) (h2 : P a2) (h3 : P a3) : ∀ c ∈ [a0, a1, a2, a3], P c := by
  intro c hc
  simp only [List.mem_cons, List.not_mem_nil, or_false] at hc
  rcases hc with rfl | rfl | rfl | rfl
  · exact h0
  · exact h1
  · exact h2
  · exact h3
theorem xS5 {P : Nat → Prop} (a0 a1 a2 a3 a4 : Nat) (h0 : P a0) (h1 : P a1) (h2 : P a2) (h3 : P a3) (h4 : P a4) : ∀ c ∈ [a0, a1, a2, a3, a4], P c := by
  intro c hc
  simp only [List.mem_cons, List.not_mem_nil, or_false] at hc
  rcases hc with rfl | rfl | rfl | rfl | rfl
  · exact h0
  · exact h1
  · exact h2
  · exact h3
  · exact h4
theorem xS6 {P : Nat → Prop} (a0 a1 a2 a3 a4 a5 : Nat) (h0 : P a0) (h1 : P a1) (h2 : P a2) (h3 : P a3) (h4 : P a4) (h5 : P a5) : ∀ c ∈ [a0, a1, a2, a3, a4, a5], P c := by
  intro c hc
  simp only [List.mem_cons, List.not_mem_nil, or_false] at hc
  rcases hc with rfl | rfl | rfl | rfl | rfl | rfl
  · exact h0
  · exact h1
  · exact h2
  · exact h3
  · exact h4
  · exact h5
theorem xS7 {P : Nat → Prop} (a0 a1 a2 a3 a4 a5 a6 : Nat) (h0 : P a0) (h1 : P a1) (h2 : P a2) (h3 : P a3) (h4 : P a4) (h5 : P a5) (h6 : P a6) : ∀ c ∈ [a0, a1, a2, a3, a4, a5, a6], P c := by
  intro c hc
  simp only [List.mem_cons, List.not_mem_nil, or_false] at hc
  rcases hc with rfl | rfl | rfl | rfl | rfl | rfl | rfl
  · exact h0
  · exact h1
  · exact h2
  · exact h3
  · exact h4
  · exact h5
  · exact h6
theorem xS8 {P : Nat → Prop} (a0 a1 a2 a3 a4 a5 a6 a7 : Nat) (h0 : P a0) (h1 : P a1) (h2 : P a2) (h3 : P a3) (h4 : P a4) (h5 : P a5) (h6 : P a6) (h7 : P a7) : ∀ c ∈ [a0, a1, a2, a3, a4, a5, a6, a7], P c := by
  intro c hc
  simp only [List.mem_cons, List.not_mem_nil, or_false] at hc
  rcases hc with rfl | rfl | rfl | rfl | rfl | rfl | rfl | rfl
  · exact h0
  · exact h1
  · exact h2
  · exact h3
  · exact h4
  · exact h5
  · exact h6
  · exact h7
theorem xS9 {P : Nat → Prop} (a0 a1 a2 a3 a4 a5 a6 a7 a8 : Nat) (h0 : P a0) (h1 : P a1) (h2 : P a2) (h3 : P a3) (h4 : P a4) (h5 : P a5) (h6 : P a6) (h7 : P a7) (h8 : P a8) : ∀ c ∈ [a0, a1, a2, a3, a4, a5, a6, a7, a8], P c := by
  intro c hc
  simp only [List.mem_cons, List.not_mem_nil, or_false] at hc
  rcases hc with rfl | rfl | rfl | rfl | rfl | rfl | rfl | rfl | rfl
  · exact h0
  · exact h1
  · exact h2
  · exact h3
  · exact h4
  · exact h5
  · exact h6
  · exact h7
  · exact h8
theorem xS10 {P : Nat → Prop} (a0 a1 a2 a3 a4 a5 a6 a7 a8 a9 : Nat) (h0 : P a0) (h1 : P a1) (h2 : P a2) (h3 : P a3) (h4 : P a4) (h5 : P a5) (h6 : P a6) (h7 : P a7) (h8 : P a8) (h9 : P a9) : ∀ c ∈ [a0, a1, a2, a3, a4, a5, a6, a7, a8, a9], P c := by
  intro c hc
  simp only [List.mem_cons, List.not_mem_nil, or_false] at hc
  rcases hc with rfl | rfl | rfl | rfl | rfl | rfl | rfl | rfl | rfl | rfl
  · exact h0
  · exact h1
  · exact h2
  · exact h3
  · exact h4
  · exact h5
  · exact h6
  · exact h7
  · exact h8
  · exact h9
theorem xS11 {P : Nat → Prop} (a0 a1 a2 a3 a4 a5 a6 a7 a8 a9 a10 : Nat) (h0 : P a0) (h1 : P a1) (h2 : P a2) (h3 : P a3) (h4 : P a4) (h5 : P a5) (h6 : P a6) (h7 : P a7) (h8 : P a8) (h9 : P a9) (h10 : P a10) : ∀ c ∈ [a0, a1, a2, a3, a4, a5, a6, a7, a8, a9, a10], P c := by
  intro c hc
  simp only [List.mem_cons, List.not_mem_nil, or_false] at hc
  rcases hc with rfl | rfl | rfl | rfl | rfl | rfl | rfl | rfl | rfl | rfl | rfl
  · exact h0
  · exact h1
  · exact h2
  · exact h3
  · exact h4
  · exact h5
  · exact h6
  · exact h7
  · exact h8
  · exact h9
  · exact h10
theorem xS12 {P : Nat → Prop} (a0 a1 a2 a3 a4 a5 a6 a7 a8 a9 a10 a11 : Nat) (h0 : P a0) (h1 : P a1) (h2 : P a2) (h3 : P a3) (h4 : P a4) (h5 : P a5) (h6 : P a6) (h7 : P a7) (h8 : P a8) (h9 : P a9) (h10 : P a10) (h11 : P a11) : ∀ c ∈ [a0, a1, a2, a3, a4, a5, a6, a7, a8, a9, a10, a11], P c := by
  intro c hc
  simp only [List.mem_cons, List.not_mem_nil, or_false] at hc
  rcases hc with rfl | rfl | rfl | rfl | rfl | rfl | rfl | rfl | rfl | rfl | rfl | rfl
  · exact h0
  · exact h1
  · exact h2
  · exact h3
  · exact h4
  · exact h5
  · exact h6
  · exact h7
  · exact h8
  · exact h9
  · exact h10
  · exact h11
theorem xS13 {P : Nat → Prop} (a0 a1 a2 a3 a4 a5 a6 a7 a8 a9 a10 a11 a12 : Nat) (h0 : P a0) (h1 : P a1) (h2 : P a2) (h3 : P a3) (h4 : P a4) (h5 : P a5) (h6 : P a6) (h7 : P a7) (h8 : P a8) (h9 : P a9) (h10 : P a10) (h11 : P a11) (h12 : P a12) : ∀ c ∈ [a0, a1, a2, a3, a4, a5, a6, a7, a8, a9, a10, a11, a12], P c := by
  intro c hc
  simp only [List.mem_cons, List.not_mem_nil, or_false] at hc
  rcases hc with rfl | rfl | rfl | rfl | rfl | rfl | rfl | rfl | rfl | rfl | rfl | rfl | rfl
  · exact h0
  · exact h1
  · exact h2
  · exact h3
  · exact h4
  · exact h5
  · exact h6
  · exact h7
  · exact h8
  · exact h9
  · exact h10
  · exact h11
  · exact h12
theorem xS14 {P : Nat → Prop} (a0 a1 a2 a3 a4 a5 a6 a7 a8 a9 a10 a11 a12 a13 : Nat) (h0 : P a0) (h1 : P a1) (h2 : P a2) (h3 : P a3) (h4 : P a4) (h5 : P a5) (h6 : P a6) (h7 : P a7) (h8 : P a8) (h9 : P a9) (h10 : P a10) (h11 : P a11) (h12 : P a12) (h13 : P a13) : ∀ c ∈ [a0, a1, a2, a3, a4, a5, a6, a7, a8, a9, a10, a11, a12, a13], P c := by
  intro c hc
  simp only [List.mem_cons, List.not_mem_nil, or_false] at hc
  rcases hc with rfl | rfl | rfl | rfl | rfl | rfl | rfl | rfl | rfl | rfl | rfl | rfl | rfl | rfl
  · exact h0
  · exact h1
  · exact h2
  · exact h3
  · exact h4
  · exact h5
  · exact h6
  · exact h7
  · exact h8
  · exact h9
  · exact h10
  · exact h11
  · exact h12
  · exact h13
theorem xS15 {P : Nat → Prop} (a0 a1 a2 a3 a4 a5 a6 a7 a8 a9 a10 a11 a12 a13 a14 : Nat) (h0 : P a0) (h1 : P a1) (h2 : P a2) (h3 : P a3) (h4 : P a4) (h5 : P a5) (h6 : P a6) (h7 : P a7) (h8 : P a8) (h9 : P a9) (h10 : P a10) (h11 : P a11) (h12 : P a12) (h13 : P a13) (h14 : P a14) : ∀ c ∈ [a0, a1, a2, a3, a4, a5, a6, a7, a8, a9, a10, a11, a12, a13, a14], P c := by
  intro c hc
  simp only [List.mem_cons, List.not_mem_nil, or_false] at hc
  rcases hc with rfl | rfl | rfl | rfl | rfl | rfl | rfl | rfl | rfl | rfl | rfl | rfl | rfl | rfl | rfl
  · exact h0
  · exact h1
  · exact h2
  · exact h3
  · exact h4
  · exact h5
  · exact h6
  · exact h7
  · exact h8
  · exact h9
  · exact h10
  · exact h11
  · exact h12
  · exact h13
  · exact h14
theorem xS16 {P : Nat → Prop} (a0 a1 a2 a3 a4 a5 a6 a7 a8 a9 a10 a11 a12 a13 a14 a15 : Nat) (h0 : P a0) (h1 : P a1) (h2 : P a2) (h3 : P a3) (h4 : P a4) (h5 : P a5) (h6 : P a6) (h7 : P a7) (h8 : P a8) (h9 : P a9) (h10 : P a10) (h11 : P a11) (h12 : P a12) (h13 : P a13) (h14 : P a14) (h15 : P a15) : ∀ c ∈ [a0, a1, a2, a3, a4, a5, a6, a7, a8, a9, a10, a11, a12, a13, a14, a15], P c := by
  intro c hc
  simp only [List.mem_cons, List.not_mem_nil, or_false] at hc
  rcases hc with rfl | rfl | rfl | rfl | rfl | rfl | rfl | rfl | rfl | rfl | rfl | rfl | rfl | rfl | rfl | rfl
  · exact h0
  · exact h1
  · exact h2
  · exact h3
  · exact h4
  · exact h5
  · exact h6
  · exact h7
  · exact h8
  · exact h9
  · exact h10
  · exact h11
  · exact h12
  · exact h13
  · exact h14
  · exact h15
theorem xS17 {P : Nat → Prop} (a0 a1 a2 a3 a4 a5 a6 a7 a8 a9 a10 a11 a12 a13 a14 a15 a16 : Nat) (h0 : P a0) (h1 : P a1) (h2 : P a2) (h3 : P a3) (h4 : P a4) (h5 : P a5) (h6 : P a6) (h7 : P a7) (h8 : P a8) (h9 : P a9) (h10 : P a10) (h11 : P a11) (h12 : P a12) (h13 : P a13) (h14 : P a14) (h15 : P a15) (h16 : P a16) : ∀ c ∈ [a0, a1, a2, a3, a4, a5, a6, a7, a8, a9, a10, a11, a12, a13, a14, a15, a16], P c := by
  intro c hc
  simp only [List.mem_cons, List.not_mem_nil, or_false] at hc
  rcases hc with rfl | rfl | rfl | rfl | rfl | rfl | rfl | rfl | rfl | rfl | rfl | rfl | rfl | rfl | rfl | rfl | rfl
  · exact h0
  · exact h1
  · exact h2
  · exact h3
  · exact h4
  · exact h5
  · exact h6
  · exact h7
  · exact h8
  · exact h9
  · exact h10
  · exact h11
  · exact h12
  · exact h13
  · exact h14
  · exact h15
  · exact h16
theorem xS18 {P : Nat → Prop} (a0 a1 a2 a3 a4 a5 a6 a7 a8 a9 a10 a11 a12 a13 a14 a15 a16 a17 : Nat) (h0 : P a0) (h1 : P a1) (h2 : P a2) (h3 : P a3) (h4 : P a4) (h5 : P a5) (h6 : P a6) (h7 : P a7) (h8 : P a8) (h9 : P a9) (h10 : P a10) (h11 : P a11) (h12 : P a12) (h13 : P a13) (h14 : P a14) (h15 : P a15) (h16 : P a16) (h17 : P a17) : ∀ c ∈ [a0, a1, a2, a3, a4, a5, a6, a7, a8, a9, a10, a11, a12, a13, a14, a15, a16, a17], P c := by
  intro c hc
  simp only [List.mem_cons, List.not_mem_nil, or_false] at hc
  rcases hc with rfl | rfl | rfl | rfl | rfl | rfl | rfl | rfl | rfl | rfl | rfl | rfl | rfl | rfl | rfl | rfl | rfl | rfl
  · exact h0
  · exact h1
  · exact h2
  · exact h3
  · exact h4
  · exact h5
  · exact h6
  · exact h7
  · exact h8
  · exact h9
  · exact h10
  · exact h11
  · exact h12
  · exact h13
  · exact h14
  · exact h15
  · exact h16
  · exact h17
theorem xS19 {P : Nat → Prop} (a0 a1 a2 a3 a4 a5 a6 a7 a8 a9 a10 a11 a12 a13 a14 a15 a16 a17 a18 : Nat) (h0 : P a0) (h1 : P a1) (h2 : P a2) (h3 : P a3) (h4 : P a4) (h5 : P a5) (h6 : P a6) (h7 : P a7) (h8 : P a8) (h9 : P a9) (h10 : P a10) (h11 : P a11) (h12 : P a12) (h13 : P a13) (h14 : P a14) (h15 : P a15) (h16 : P a16) (h17 : P a17) (h18 : P a18) : ∀ c ∈ [a0, a1, a2, a3, a4, a5, a6, a7, a8, a9, a10, a11, a12, a13, a14, a15, a16, a17, a18], P c := by
  intro c hc
  simp only [List.mem_cons, List.not_mem_nil, or_false] at hc
  rcases hc with rfl | rfl | rfl | rfl | rfl | rfl | rfl | rfl | rfl | rfl | rfl | rfl | rfl | rfl | rfl | rfl | rfl | rfl | rfl
  · exact h0
  · exact h1
  · exact h2
  · exact h3
  · exact h4
  · exact h5
  · exact h6
  · exact h7
  · exact h8
  · exact h9
  · exact h10
  · exact h11
  · exact h12
  · exact h13
  · exact h14
  · exact h15
  · exact h16
  · exact h17
  · exact h18
theorem xS20 {P : Nat → Prop} (a0 a1 a2 a3 a4 a5 a6 a7 a8 a9 a10 a11 a12 a13 a14 a15 a16 a17 a18 a19 : Nat) (h0 : P a0) (h1 : P a1) (h2 : P a2) (h3 : P a3) (h4 : P a4) (h5 : P a5) (h6 : P a6) (h7 : P a7) (h8 : P a8) (h9 : P a9) (h10 : P a10) (h11 : P a11) (h12 : P a12) (h13 : P a13) (h14 : P a14) (h15 : P a15) (h16 : P a16) (h17 : P a17) (h18 : P a18) (h19 : P a19) : ∀ c ∈ [a0, a1, a2, a3, a4, a5, a6, a7, a8, a9, a10, a11, a12, a13, a14, a15, a16, a17, a18, a19], P c := by
  intro c hc
  simp only [List.mem_cons, List.not_mem_nil, or_false] at hc
  rcases hc with rfl | rfl | rfl | rfl | rfl | rfl | rfl | rfl | rfl | rfl | rfl | rfl | rfl | rfl | rfl | rfl | rfl | rfl | rfl | rfl
  · exact h0
  · exact h1
  · exact h2
  · exact h3
  · exact h4
  · exact h5
  · exact h6
  · exact h7
  · exact h8
  · exact h9
  · exact h10
  · exact h11
  · exact h12
  · exact h13
  · exact h14
  · exact h15
  · exact h16
  · exact h17
  · exact h18
  · exact h19
theorem xS21 {P : Nat → Prop} (a0 a1 a2 a3 a4 a5 a6 a7 a8 a9 a10 a11 a12 a13 a14 a15 a16 a17 a18 a19 a20 : Nat) (h0 : P a0) (h1 : P a1) (h2 : P a2) (h3 : P a3) (h4 : P a4) (h5 : P a5) (h6 : P a6) (h7 : P a7) (h8 : P a8) (h9 : P a9) (h10 : P a10) (h11 : P a11) (h12 : P a12) (h13 : P a13) (h14 : P a14) (h15 : P a15) (h16 : P a16) (h17 : P a17) (h18 : P a18) (h19 : P a19) (h20 : P a20) : ∀ c ∈ [a0, a1, a2, a3, a4, a5, a6, a7, a8, a9, a10, a11, a12, a13, a14, a15, a16, a17, a18, a19, a20], P c := by
  intro c hc
  simp only [List.mem_cons, List.not_mem_nil, or_false] at hc
  rcases hc with rfl | rfl | rfl | rfl | rfl | rfl | rfl | rfl | rfl | rfl | rfl | rfl | rfl | rfl | rfl | rfl | rfl | rfl | rfl | rfl | rfl
  · exact h0
  · exact h1
  · exact h2
  · exact h3
  · exact h4
  · exact h5
  · exact h6
  · exact h7
  · exact h8
  · exact h9
  · exact h10
  · exact h11
  · exact h12
  · exact h13
  · exact h14
  · exact h15
  · exact h16
  · exact h17
  · exact h18
  · exact h19
  · exact h20
theorem xS22 {P : Nat → Prop} (a0 a1 a2 a3 a4 a5 a6 a7 a8 a9 a10 a11 a12 a13 a14 a15 a16 a17 a18 a19 a20 a21 : Nat) (h0 : P a0) (h1 : P a1) (h2 : P a2) (h3 : P a3) (h4 : P a4) (h5 : P a5) (h6 : P a6) (h7 : P a7) (h8 : P a8) (h9 : P a9) (h10 : P a10) (h11 : P a11) (h12 : P a12) (h13 : P a13) (h14 : P a14) (h15 : P a15) (h16 : P a16) (h17 : P a17) (h18 : P a18) (h19 : P a19) (h20 : P a20) (h21 : P a21) : ∀ c ∈ [a0, a1, a2, a3, a4, a5, a6, a7, a8, a9, a10, a11, a12, a13, a14, a15, a16, a17, a18, a19, a20, a21], P c := by
  intro c hc
  simp only [List.mem_cons, List.not_mem_nil, or_false] at hc
  rcases hc with rfl | rfl | rfl | rfl | rfl | rfl | rfl | rfl | rfl | rfl | rfl | rfl | rfl | rfl | rfl | rfl | rfl | rfl | rfl | rfl | rfl | rfl
  · exact h0
  · exact h1
  · exact h2
  · exact h3
  · exact h4
  · exact h5
  · exact h6
  · exact h7
  · exact h8
  · exact h9
  · exact h10
  · exact h11
  · exact h12
  · exact h13
  · exact h14
  · exact h15
  · exact h16
  · exact h17
  · exact h18
  · exact h19
  · exact h20
  · exact h21
theorem xS23 {P : Nat → Prop} (a0 a1 a2 a3 a4 a5 a6 a7 a8 a9 a10 a11 a12 a13 a14 a15 a16 a17 a18 a19 a20 a21 a22 : Nat) (h0 : P a0) (h1 : P a1) (h2 : P a2) (h3 : P a3) (h4 : P a4) (h5 : P a5) (h6 : P a6) (h7 : P a7) (h8 : P a8) (h9 : P a9) (h10 : P a10) (h11 : P a11) (h12 : P a12) (h13 : P a13) (h14 : P a14) (h15 : P a15) (h16 : P a16) (h17 : P a17) (h18 : P a18) (h19 : P a19) (h20 : P a20) (h21 : P a21) (h22 : P a22) : ∀ c ∈ [a0, a1, a2, a3, a4, a5, a6, a7, a8, a9, a10, a11, a12, a13, a14, a15, a16, a17, a18, a19, a20, a21, a22], P c := by
  intro c hc
  simp only [List.mem_cons, List.not_mem_nil, or_false] at hc
  rcases hc with rfl | rfl | rfl | rfl | rfl | rfl | rfl | rfl | rfl | rfl | rfl | rfl | rfl | rfl | rfl | rfl | rfl | rfl | rfl | rfl | rfl | rfl | rfl
  · exact h0
  · exact h1
  · exact h2
  · exact h3
  · exact h4
  · exact h5
  · exact h6
  · exact h7
  · exact h8
  · exact h9
  · exact h10
  · exact h11
  · exact h12
  · exact h13
  · exact h14
  · exact h15
  · exact h16
  · exact h17
  · exact h18
  · exact h19
  · exact h20
  · exact h21
  · exact h22
theorem xS24 {P : Nat → Prop} (a0 a1 a2 a3 a4 a5 a6 a7 a8 a9 a10 a11 a12 a13 a14 a15 a16 a17 a18 a19 a20 a21 a22 a23 : Nat) (h0 : P a0) (h1 : P a1) (h2 : P a2) (h3 : P a3) (h4 : P a4) (h5 : P a5) (h6 : P a6) (h7 : P a7) (h8 : P a8) (h9 : P a9) (h10 : P a10) (h11 : P a11) (h12 : P a12) (h13 : P a13) (h14 : P a14) (h15 : P a15) (h16 : P a16) (h17 : P a17) (h18 : P a18) (h19 : P a19) (h20 : P a20) (h21 : P a21) (h22 : P a22) (h23 : P a23) : ∀ c ∈ [a0, a1, a2, a3, a4, a5, a6, a7, a8, a9, a10, a11, a12, a13, a14, a15, a16, a17, a18, a19, a20, a21, a22, a23], P c := by
  intro c hc
  simp only [List.mem_cons, List.not_mem_nil, or_false] at hc
  rcases hc with rfl | rfl | rfl | rfl | rfl | rfl | rfl | rfl | rfl | rfl | rfl | rfl | rfl | rfl | rfl | rfl | rfl | rfl | rfl | rfl | rfl | rfl | rfl | rfl
  · exact h0
  · exact h1
  · exact h2
  · exact h3
  · exact h4
  · exact h5
  · exact h6
  · exact h7
  · exact h8
  · exact h9
  · exact h10
  · exact h11
  · exact h12
  · exact h13
  · exact h14
  · exact h15
  · exact h16
  · exact h17
  · exact h18
  · exact h19
  · exact h20
  · exact h21
  · exact h22
  · exact h23
section XT
variable {G : xG} {C : xC} {M : xM} {pc : Nat} {lv : List (Nat × Value)} {st : List Value} {h : mH}
theorem x_tsw {dflt lo hi off : Int} {offs : Array Int} {len : Nat} {x k : Int32} (tgt : Nat) (hd : decode M.1 pc = .ok (.tableswitch dflt lo hi offs, len)) (hx : x = k) (h1 : ¬ k.toInt < lo) (h2 : ¬ hi < k.toInt) (ho : offs[(k.toInt - lo).toNat]? = some off) (ht : (pc : Int) + off = (tgt : Int)) (kk : X G C M tgt lv st h) : X G C M pc lv (.int x :: st) h := by
  subst hx
  exact X.step kk (fun hC ls H locs cells slots hl k => lv_tableIn hC.1 hC.2.1 hd h1 h2 ho ht k)
theorem x_tswd {dflt lo hi : Int} {offs : Array Int} {len : Nat} {x : Int32} (tgt : Nat) (hd : decode M.1 pc = .ok (.tableswitch dflt lo hi offs, len)) (hx : x.toInt < lo ∨ hi < x.toInt) (ht : (pc : Int) + dflt = (tgt : Int)) (kk : X G C M tgt lv st h) : X G C M pc lv (.int x :: st) h := X.step kk (fun hC ls H locs cells slots hl k => lv_tableOut hC.1 hC.2.1 hd hx ht k)
end XT
theorem ci_0 : xCI 0 RX1 TX1 21 tyX1 := ⟨rfl, in_X1, tyX1_ok, nmX1⟩
theorem nf_X1 (G : xG) : ∀ j, j < 21 → xrv G (vp_V [.ref 0, .int 0, .int 0, .ref 0, .ref 0, .ref 0, .ref 0, .ref 0, .int 0, .ref 0, .ref 0, .int 0, .int 0, .int 0, .ref 0, .ref 0, .int 0, .int 0, .ref 0, .ref 0, .ref 0] j) = defaultValue (tyX1 j) := fun j hj => match j, hj with
  | 0, _ => rfl
  | 1, _ => rfl
  | 2, _ => rfl
  | 3, _ => rfl
  | 4, _ => rfl
  | 5, _ => rfl
  | 6, _ => rfl
  | 7, _ => rfl
  | 8, _ => rfl
  | 9, _ => rfl
  | 10, _ => rfl
  | 11, _ => rfl
  | 12, _ => rfl
  | 13, _ => rfl
  | 14, _ => rfl
  | 15, _ => rfl
  | 16, _ => rfl
  | 17, _ => rfl
  | 18, _ => rfl
  | 19, _ => rfl
  | 20, _ => rfl
  | n + 21, h => absurd h (by omega)
theorem ci_1 : xCI 1 RX2 TX2 6 tyX2 := ⟨rfl, in_X2, tyX2_ok, nmX2⟩
theorem nf_X2 (G : xG) : ∀ j, j < 6 → xrv G (vp_V [.int 0, .int 0, .int 0, .int 0, .ref 0, .ref 0] j) = defaultValue (tyX2 j) := fun j hj => match j, hj with
  | 0, _ => rfl
  | 1, _ => rfl
  | 2, _ => rfl
  | 3, _ => rfl
  | 4, _ => rfl
  | 5, _ => rfl
  | n + 6, h => absurd h (by omega)
theorem ci_2 : xCI 2 RX3 TX3 13 tyX3 := ⟨rfl, in_X3, tyX3_ok, nmX3⟩
theorem nf_X3 (G : xG) : ∀ j, j < 13 → xrv G (vp_V [.ref 0, .int 0, .int 0, .int 0, .int 0, .int 0, .ref 0, .ref 0, .ref 0, .ref 0, .ref 0, .ref 0, .int 0] j) = defaultValue (tyX3 j) := fun j hj => match j, hj with
  | 0, _ => rfl
  | 1, _ => rfl
  | 2, _ => rfl
  | 3, _ => rfl
  | 4, _ => rfl
  | 5, _ => rfl
  | 6, _ => rfl
  | 7, _ => rfl
  | 8, _ => rfl
  | 9, _ => rfl
  | 10, _ => rfl
  | 11, _ => rfl
  | 12, _ => rfl
  | n + 13, h => absurd h (by omega)
theorem ci_3 : xCI 3 RX4 TX4 3 tyX4 := ⟨rfl, in_X4, tyX4_ok, nmX4⟩
theorem nf_X4 (G : xG) : ∀ j, j < 3 → xrv G (vp_V [.ref 0, .ref 0, .ref 0] j) = defaultValue (tyX4 j) := fun j hj => match j, hj with
  | 0, _ => rfl
  | 1, _ => rfl
  | 2, _ => rfl
  | n + 3, h => absurd h (by omega)
theorem ci_4 : xCI 4 RX5 TX5 52 tyX5 := ⟨rfl, in_X5, tyX5_ok, nmX5⟩
theorem nf_X5 (G : xG) : ∀ j, j < 52 → xrv G (vp_V [.int 0, .ref 0, .int 0, .int 0, .int 0, .int 0, .ref 0, .ref 0, .ref 0, .ref 0, .ref 0, .int 0, .int 0, .int 0, .int 0, .int 0, .int 0, .long 0, .int 0, .int 0, .int 0, .ref 0, .ref 0, .int 0, .ref 0, .ref 0, .ref 0, .int 0, .int 0, .int 0, .int 0, .ref 0, .ref 0, .int 0, .int 0, .int 0, .ref 0, .int 0, .int 0, .int 0, .ref 0, .int 0, .ref 0, .int 0, .int 0, .int 0, .int 0, .int 0, .ref 0, .ref 0, .ref 0, .ref 0] j) = defaultValue (tyX5 j) := fun j hj => match j, hj with
  | 0, _ => rfl
  | 1, _ => rfl
  | 2, _ => rfl
  | 3, _ => rfl
  | 4, _ => rfl
  | 5, _ => rfl
  | 6, _ => rfl
  | 7, _ => rfl
  | 8, _ => rfl
  | 9, _ => rfl
  | 10, _ => rfl
  | 11, _ => rfl
  | 12, _ => rfl
  | 13, _ => rfl
  | 14, _ => rfl
  | 15, _ => rfl
  | 16, _ => rfl
  | 17, _ => rfl
  | 18, _ => rfl
  | 19, _ => rfl
  | 20, _ => rfl
  | 21, _ => rfl
  | 22, _ => rfl
  | 23, _ => rfl
  | 24, _ => rfl
  | 25, _ => rfl
  | 26, _ => rfl
  | 27, _ => rfl
  | 28, _ => rfl
  | 29, _ => rfl
  | 30, _ => rfl
  | 31, _ => rfl
  | 32, _ => rfl
  | 33, _ => rfl
  | 34, _ => rfl
  | 35, _ => rfl
  | 36, _ => rfl
  | 37, _ => rfl
  | 38, _ => rfl
  | 39, _ => rfl
  | 40, _ => rfl
  | 41, _ => rfl
  | 42, _ => rfl
  | 43, _ => rfl
  | 44, _ => rfl
  | 45, _ => rfl
  | 46, _ => rfl
  | 47, _ => rfl
  | 48, _ => rfl
  | 49, _ => rfl
  | 50, _ => rfl
  | 51, _ => rfl
  | n + 52, h => absurd h (by omega)
theorem ci_5 : xCI 5 RX7 TX7 11 tyX7 := ⟨rfl, in_X7, tyX7_ok, nmX7⟩
theorem nf_X7 (G : xG) : ∀ j, j < 11 → xrv G (vp_V [.ref 0, .int 0, .int 0, .int 0, .int 0, .int 0, .int 0, .int 0, .ref 0, .ref 0, .int 0] j) = defaultValue (tyX7 j) := fun j hj => match j, hj with
  | 0, _ => rfl
  | 1, _ => rfl
  | 2, _ => rfl
  | 3, _ => rfl
  | 4, _ => rfl
  | 5, _ => rfl
  | 6, _ => rfl
  | 7, _ => rfl
  | 8, _ => rfl
  | 9, _ => rfl
  | 10, _ => rfl
  | n + 11, h => absurd h (by omega)
theorem ci_6 : xCI 6 RX17 TX17 11 tyX17 := ⟨rfl, in_X17, tyX17_ok, nmX17⟩
theorem nf_X17 (G : xG) : ∀ j, j < 11 → xrv G (vp_V [.ref 0, .int 0, .int 0, .int 0, .int 0, .int 0, .int 0, .int 0, .ref 0, .ref 0, .ref 0] j) = defaultValue (tyX17 j) := fun j hj => match j, hj with
  | 0, _ => rfl
  | 1, _ => rfl
  | 2, _ => rfl
  | 3, _ => rfl
  | 4, _ => rfl
  | 5, _ => rfl
  | 6, _ => rfl
  | 7, _ => rfl
  | 8, _ => rfl
  | 9, _ => rfl
  | 10, _ => rfl
  | n + 11, h => absurd h (by omega)
theorem ci_7 : xCI 7 RX19 TX19 12 tyX19 := ⟨rfl, in_X19, tyX19_ok, nmX19⟩
theorem nf_X19 (G : xG) : ∀ j, j < 12 → xrv G (vp_V [.ref 0, .int 0, .int 0, .int 0, .int 0, .int 0, .int 0, .int 0, .ref 0, .ref 0, .int 0, .int 0] j) = defaultValue (tyX19 j) := fun j hj => match j, hj with
  | 0, _ => rfl
  | 1, _ => rfl
  | 2, _ => rfl
  | 3, _ => rfl
  | 4, _ => rfl
  | 5, _ => rfl
  | 6, _ => rfl
  | 7, _ => rfl
  | 8, _ => rfl
  | 9, _ => rfl
  | 10, _ => rfl
  | 11, _ => rfl
  | n + 12, h => absurd h (by omega)
theorem ci_8 : xCI 8 RX8 TX8 8 tyX8 := ⟨rfl, in_X8, tyX8_ok, nmX8⟩
theorem nf_X8 (G : xG) : ∀ j, j < 8 → xrv G (vp_V [.ref 0, .ref 0, .ref 0, .ref 0, .ref 0, .int 0, .int 0, .int 0] j) = defaultValue (tyX8 j) := fun j hj => match j, hj with
  | 0, _ => rfl
  | 1, _ => rfl
  | 2, _ => rfl
  | 3, _ => rfl
  | 4, _ => rfl
  | 5, _ => rfl
  | 6, _ => rfl
  | 7, _ => rfl
  | n + 8, h => absurd h (by omega)
theorem ci_9 : xCI 9 RX9 TX9 1 tyX9 := ⟨rfl, in_X9, tyX9_ok, nmX9⟩
theorem nf_X9 (G : xG) : ∀ j, j < 1 → xrv G (vp_V [.ref 0] j) = defaultValue (tyX9 j) := fun j hj => match j, hj with
  | 0, _ => rfl
  | n + 1, h => absurd h (by omega)
theorem ci_10 : xCI 10 RX10 TX10 7 tyX10 := ⟨rfl, in_X10, tyX10_ok, nmX10⟩
theorem nf_X10 (G : xG) : ∀ j, j < 7 → xrv G (vp_V [.ref 0, .int 0, .int 0, .int 0, .ref 0, .ref 0, .ref 0] j) = defaultValue (tyX10 j) := fun j hj => match j, hj with
  | 0, _ => rfl
  | 1, _ => rfl
  | 2, _ => rfl
  | 3, _ => rfl
  | 4, _ => rfl
  | 5, _ => rfl
  | 6, _ => rfl
  | n + 7, h => absurd h (by omega)
theorem ci_11 : xCI 11 RX13 TX13 3 tyX13 := ⟨rfl, in_X13, tyX13_ok, nmX13⟩
theorem nf_X13 (G : xG) : ∀ j, j < 3 → xrv G (vp_V [.int 0, .int 0, .int 0] j) = defaultValue (tyX13 j) := fun j hj => match j, hj with
  | 0, _ => rfl
  | 1, _ => rfl
  | 2, _ => rfl
  | n + 3, h => absurd h (by omega)
theorem ci_12 : xCI 12 RX14 TX14 2 tyX14 := ⟨rfl, in_X14, tyX14_ok, nmX14⟩
theorem nf_X14 (G : xG) : ∀ j, j < 2 → xrv G (vp_V [.int 0, .int 0] j) = defaultValue (tyX14 j) := fun j hj => match j, hj with
  | 0, _ => rfl
  | 1, _ => rfl
  | n + 2, h => absurd h (by omega)
theorem ci_13 : xCI 13 RX15 TX15 3 tyX15 := ⟨rfl, in_X15, tyX15_ok, nmX15⟩
theorem nf_X15 (G : xG) : ∀ j, j < 3 → xrv G (vp_V [.int 0, .int 0, .int 0] j) = defaultValue (tyX15 j) := fun j hj => match j, hj with
  | 0, _ => rfl
  | 1, _ => rfl
  | 2, _ => rfl
  | n + 3, h => absurd h (by omega)
theorem ci_14 : xCI 14 RX16 TX16 1 tyX16 := ⟨rfl, in_X16, tyX16_ok, nmX16⟩
theorem nf_X16 (G : xG) : ∀ j, j < 1 → xrv G (vp_V [.int 0] j) = defaultValue (tyX16 j) := fun j hj => match j, hj with
  | 0, _ => rfl
  | n + 1, h => absurd h (by omega)
theorem ci_15 : xCI 15 RX18 TX18 2 tyX18 := ⟨rfl, in_X18, tyX18_ok, nmX18⟩
theorem nf_X18 (G : xG) : ∀ j, j < 2 → xrv G (vp_V [.int 0, .int 0] j) = defaultValue (tyX18 j) := fun j hj => match j, hj with
  | 0, _ => rfl
  | 1, _ => rfl
  | n + 2, h => absurd h (by omega)
theorem ci_16 : xCI 16 RX21 TX21 1 tyX21 := ⟨rfl, in_X21, tyX21_ok, nmX21⟩
theorem nf_X21 (G : xG) : ∀ j, j < 1 → xrv G (vp_V [.ref 0] j) = defaultValue (tyX21 j) := fun j hj => match j, hj with
  | 0, _ => rfl
  | n + 1, h => absurd h (by omega)
theorem ci_17 : xCI 17 RX22 TX22 2 tyX22 := ⟨rfl, in_X22, tyX22_ok, nmX22⟩
theorem nf_X22 (G : xG) : ∀ j, j < 2 → xrv G (vp_V [.int 0, .int 0] j) = defaultValue (tyX22 j) := fun j hj => match j, hj with
  | 0, _ => rfl
  | 1, _ => rfl
  | n + 2, h => absurd h (by omega)
theorem ci_18 : xCI 18 RX23 TX23 1 tyX23 := ⟨rfl, in_X23, tyX23_ok, nmX23⟩
theorem nf_X23 (G : xG) : ∀ j, j < 1 → xrv G (vp_V [.int 0] j) = defaultValue (tyX23 j) := fun j hj => match j, hj with
  | 0, _ => rfl
  | n + 1, h => absurd h (by omega)
theorem ci_19 : xCI 19 RX24 TX24 3 tyX24 := ⟨rfl, in_X24, tyX24_ok, nmX24⟩
theorem nf_X24 (G : xG) : ∀ j, j < 3 → xrv G (vp_V [.int 0, .int 0, .int 0] j) = defaultValue (tyX24 j) := fun j hj => match j, hj with
  | 0, _ => rfl
  | 1, _ => rfl
  | 2, _ => rfl
  | n + 3, h => absurd h (by omega)
theorem ci_20 : xCI 20 RX25 TX25 3 tyX25 := ⟨rfl, in_X25, tyX25_ok, nmX25⟩
theorem nf_X25 (G : xG) : ∀ j, j < 3 → xrv G (vp_V [.ref 0, .ref 0, .int 0] j) = defaultValue (tyX25 j) := fun j hj => match j, hj with
  | 0, _ => rfl
  | 1, _ => rfl
  | 2, _ => rfl
  | n + 3, h => absurd h (by omega)
theorem ci_21 : xCI 21 RJ2 TJ2 3 tyJ2 := ⟨rfl, in_J2, tyJ2_ok, nmJ2⟩
theorem nf_J2 (G : xG) : ∀ j, j < 3 → xrv G (vp_V [.int 0, .ref 0, .int 0] j) = defaultValue (tyJ2 j) := fun j hj => match j, hj with
  | 0, _ => rfl
  | 1, _ => rfl
  | 2, _ => rfl
  | n + 3, h => absurd h (by omega)
theorem ci_22 : xCI 22 RJ7 TJ7 4 tyJ7 := ⟨rfl, in_J7, tyJ7_ok, nmJ7⟩
theorem nf_J7 (G : xG) : ∀ j, j < 4 → xrv G (vp_V [.ref 0, .int 0, .int 0, .int 0] j) = defaultValue (tyJ7 j) := fun j hj => match j, hj with
  | 0, _ => rfl
  | 1, _ => rfl
  | 2, _ => rfl
  | 3, _ => rfl
  | n + 4, h => absurd h (by omega)
theorem ci_23 : xCI 23 RJ8 TJ8 2 tyJ8 := ⟨rfl, fun w hw => in_J8 w (by obtain ⟨j, hj, e⟩ := List.mem_map.mp hw; exact List.mem_map.mpr ⟨j, List.mem_range.mpr (Nat.lt_of_lt_of_le (List.mem_range.mp hj) (by decide)), e⟩), fun k h => tyJ8_ok k (by omega), fun a ha b hb => nmJ8 a (by omega) b (by omega)⟩
theorem nf_J8 (G : xG) : ∀ j, j < 2 → xrv G (vp_V [.ref 0, .int 0] j) = defaultValue (tyJ8 j) := fun j hj => match j, hj with
  | 0, _ => rfl
  | 1, _ => rfl
  | n + 2, h => absurd h (by omega)
