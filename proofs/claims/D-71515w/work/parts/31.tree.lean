/-! trees: leaves are jobs, a branch has its split 16 * start + number -/
abbrev TT : Type := Lean.RArray Nat
def tl : TT → List Nat
  | .leaf j => [j]
  | .branch _ a b => tl a ++ tl b
def nn : TT → Nat
  | .leaf _ => 1
  | .branch _ a b => 1 + nn a + nn b
theorem tl_pos : ∀ t : TT, 0 < (tl t).length
  | .leaf j => by simp [tl]
  | .branch _ a b => by
    have := tl_pos a
    simp [tl]
    omega
theorem nn_tl : ∀ t : TT, nn t + 1 = 2 * (tl t).length
  | .leaf j => by simp [tl, nn]
  | .branch _ a b => by
    have h1 := nn_tl a
    have h2 := nn_tl b
    simp [tl, nn]
    omega
/-- the tree t stands in the rows of parts from x on, its nodes are ns (from above, left ahead of right) -/
def RepM (σ : Nat → Nat → Int) : TT → Nat → List Nat → Prop
  | .leaf j, x, ns => ns = [x] ∧ x < 24 ∧ σ 6 x = -1 ∧ σ 8 x = j ∧ σ 9 x = σ 2 j ∧ σ 10 x = j ∧ j < 12
  | .branch κ a b, x, ns => ∃ (xa xb : Nat) (na nb : List Nat), ns = x :: (na ++ nb) ∧ x < 24 ∧ σ 6 x = xa ∧ σ 7 x = xb ∧ RepM σ a xa na ∧ RepM σ b xb nb ∧ (κ : Int) = 16 * σ 9 x + σ 10 x ∧ 0 ≤ σ 10 x ∧ σ 10 x < 16 ∧ 0 ≤ σ 9 x ∧ σ 9 x ≤ 99
theorem RepM.lt {σ : Nat → Nat → Int} : ∀ {t : TT} {x : Nat} {ns : List Nat}, RepM σ t x ns → x < 24
  | .leaf _, _, _, h => h.2.1
  | .branch _ _ _, _, _, ⟨_, _, _, _, _, h, _⟩ => h
theorem RepM.hd {σ : Nat → Nat → Int} : ∀ {t : TT} {x : Nat} {ns : List Nat}, RepM σ t x ns → ∃ r, ns = x :: r
  | .leaf _, x, _, h => ⟨[], h.1⟩
  | .branch _ _ _, _, _, ⟨_, _, na, nb, h, _⟩ => ⟨na ++ nb, h⟩
theorem RepM.all {σ : Nat → Nat → Int} : ∀ {t : TT} {x : Nat} {ns : List Nat}, RepM σ t x ns → ∀ y ∈ ns, y < 24
  | .leaf _, x, _, h, y, hy => by rw [h.1] at hy; simp at hy; rw [hy]; exact h.2.1
  | .branch _ _ _, _, _, ⟨_, _, na, nb, h, h2, _, _, h3, h4, _⟩, y, hy => by
    rw [h] at hy
    rcases List.mem_cons.mp hy with e | e
    · rw [e]; exact h2
    · rcases List.mem_append.mp e with e | e
      · exact h3.all y e
      · exact h4.all y e
theorem RepM.used {σ : Nat → Nat → Int} : ∀ {t : TT} {x : Nat} {ns : List Nat}, RepM σ t x ns → ∀ y ∈ ns, -1 ≤ σ 6 y
  | .leaf _, x, _, h, y, hy => by rw [h.1] at hy; simp at hy; rw [hy, h.2.2.1]; decide
  | .branch _ _ _, _, _, ⟨_, _, na, nb, h, h2, h5, _, h3, h4, _⟩, y, hy => by
    rw [h] at hy
    rcases List.mem_cons.mp hy with e | e
    · rw [e, h5]; omega
    · rcases List.mem_append.mp e with e | e
      · exact h3.used y e
      · exact h4.used y e
theorem RepM.len {σ : Nat → Nat → Int} : ∀ {t : TT} {x : Nat} {ns : List Nat}, RepM σ t x ns → ns.length = nn t
  | .leaf _, x, _, h => by rw [h.1]; rfl
  | .branch _ _ _, _, _, ⟨_, _, na, nb, h, h2, _, _, h3, h4, _⟩ => by
    rw [h]
    simp [nn, h3.len, h4.len]
    omega
theorem RepM.jobs {σ : Nat → Nat → Int} : ∀ {t : TT} {x : Nat} {ns : List Nat}, RepM σ t x ns → ∀ j ∈ tl t, j < 12
  | .leaf j, x, _, h, y, hy => by simp [tl] at hy; rw [hy]; exact h.2.2.2.2.2.2
  | .branch _ _ _, _, _, ⟨_, _, na, nb, h, h2, _, _, h3, h4, _⟩, y, hy => by
    rcases List.mem_append.mp hy with e | e
    · exact h3.jobs y e
    · exact h4.jobs y e
/-- the same numbers at its nodes and of its jobs: the same tree -/
theorem RepM.cong {σ σ' : Nat → Nat → Int} : ∀ {t : TT} {x : Nat} {ns : List Nat}, RepM σ t x ns → (∀ y ∈ ns, σ' 6 y = σ 6 y ∧ σ' 7 y = σ 7 y ∧ σ' 8 y = σ 8 y ∧ σ' 9 y = σ 9 y ∧ σ' 10 y = σ 10 y) → (∀ j ∈ tl t, σ' 2 j = σ 2 j) → RepM σ' t x ns
  | .leaf j, x, ns, h, hy, hj => by
    obtain ⟨e, h1, h2, h3, h4, h5, h6⟩ := h
    obtain ⟨q6, q7, q8, q9, q10⟩ := hy x (by rw [e]; exact List.mem_cons_self)
    exact ⟨e, h1, by rw [q6]; exact h2, by rw [q8]; exact h3, by rw [q9, hj j (by simp [tl])]; exact h4, by rw [q10]; exact h5, h6⟩
  | .branch κ a b, x, ns, h, hy, hj => by
    obtain ⟨xa, xb, na, nb, e, h1, h2, h3, h4, h5, h6, h7⟩ := h
    obtain ⟨q6, q7, q8, q9, q10⟩ := hy x (by rw [e]; exact List.mem_cons_self)
    exact ⟨xa, xb, na, nb, e, h1, by rw [q6]; exact h2, by rw [q7]; exact h3, h4.cong (fun y hy2 => hy y (by rw [e]; exact List.mem_cons_of_mem _ (List.mem_append_left _ hy2))) (fun j hj2 => hj j (List.mem_append_left _ hj2)), h5.cong (fun y hy2 => hy y (by rw [e]; exact List.mem_cons_of_mem _ (List.mem_append_right _ hy2))) (fun j hj2 => hj j (List.mem_append_right _ hj2)), by rw [q9, q10]; exact h6, by rw [q9, q10]; exact h7⟩
/-- nothing has changed but the model's rows fs -/
def Off0 (fs : List Nat) (γ g : GG) : Prop := ∀ o f, ¬ (o = 0 ∧ f ∈ fs) → g o f = γ o f
theorem Off0.rf {fs : List Nat} {γ : GG} : Off0 fs γ γ := fun _ _ _ => rfl
theorem Off0.tr {fs : List Nat} {a b c : GG} (h1 : Off0 fs a b) (h2 : Off0 fs b c) : Off0 fs a c := fun o f h => (h2 o f h).trans (h1 o f h)
theorem Off0.mono {fs gs : List Nat} {a b : GG} (h : Off0 fs a b) (hs : ∀ f ∈ fs, f ∈ gs) : Off0 gs a b := fun o f q => h o f (fun z => q ⟨z.1, hs f z.2⟩)
theorem Off0.up {fs : List Nat} {γ g : GG} (h : Off0 fs γ g) {f i : Nat} {z : Int} (hf : f ∈ fs) : Off0 fs γ (gu g 0 f i z) := fun o q hq => by
  rw [← h o q hq]
  by_cases e : o = 0
  · subst e
    exact gu_f (fun e2 => hq ⟨rfl, by rw [e2]; exact hf⟩)
  · exact congrFun (gu_o e) q
theorem Off0.f {fs : List Nat} {γ g : GG} (h : Off0 fs γ g) (q : Nat) (hq : fs.contains q = false) : g 0 q = γ 0 q := h 0 q (fun e => by have := List.contains_iff_mem.mpr e.2; rw [hq] at this; cases this)
theorem Off0.o {fs : List Nat} {γ g : GG} (h : Off0 fs γ g) (o : Nat) (ho : o ≠ 0) : g o = γ o := by
  funext f
  exact h o f (fun e => ho e.1)
theorem RepM.off {fs : List Nat} {γ g : GG} (h : Off0 fs γ g) (hf : (fs.contains 2 || fs.contains 6 || fs.contains 7 || fs.contains 8 || fs.contains 9 || fs.contains 10) = false) {t : TT} {x : Nat} {ns : List Nat} (r : RepM (γ 0) t x ns) : RepM (g 0) t x ns := by
  simp only [Bool.or_eq_false_iff] at hf
  obtain ⟨⟨⟨⟨⟨h2, h6⟩, h7⟩, h8⟩, h9⟩, h10⟩ := hf
  refine r.cong (fun y _ => ?_) (fun j _ => ?_)
  · rw [h.f 6 h6, h.f 7 h7, h.f 8 h8, h.f 9 h9, h.f 10 h10]
    exact ⟨rfl, rfl, rfl, rfl, rfl⟩
  · rw [h.f 2 h2]
