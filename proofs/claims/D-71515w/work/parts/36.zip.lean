/-! a place in a tree: the frames above it, the nearest first: node, split, whether the place is left, the other part, its root, its nodes -/
abbrev FrT : Type := Nat × Nat × Bool × TT × Nat × List Nat
def fill (f : FrT) (t : TT) : TT := if f.2.2.1 = true then .branch f.2.1 t f.2.2.2.1 else .branch f.2.1 f.2.2.2.1 t
def plug : List FrT → TT → TT
  | [], t => t
  | f :: r, t => plug r (fill f t)
def cn : List FrT → List Nat
  | [] => []
  | f :: r => f.1 :: (f.2.2.2.2.2 ++ cn r)
def FrM (σ : Nat → Nat → Int) (x : Nat) (f : FrT) : Prop := f.1 < 24 ∧ (if f.2.2.1 = true then σ 6 f.1 = x ∧ σ 7 f.1 = f.2.2.2.2.1 else σ 6 f.1 = f.2.2.2.2.1 ∧ σ 7 f.1 = x) ∧ RepM σ f.2.2.2.1 f.2.2.2.2.1 f.2.2.2.2.2 ∧ (f.2.1 : Int) = 16 * σ 9 f.1 + σ 10 f.1 ∧ 0 ≤ σ 10 f.1 ∧ σ 10 f.1 < 16 ∧ 0 ≤ σ 9 f.1 ∧ σ 9 f.1 ≤ 99
def CtxM (σ : Nat → Nat → Int) : Nat → List FrT → Prop
  | _, [] => True
  | x, f :: r => FrM σ x f ∧ CtxM σ f.1 r
def rootC : Nat → List FrT → Nat
  | x, [] => x
  | _, f :: r => rootC f.1 r
theorem fill_rep {σ : Nat → Nat → Int} {t : TT} {x : Nat} {ns : List Nat} {f : FrT} (h : RepM σ t x ns) (hf : FrM σ x f) : ∃ ns', RepM σ (fill f t) f.1 ns' ∧ ns'.Perm (f.1 :: (ns ++ f.2.2.2.2.2)) := by
  obtain ⟨y, κ, s, u, xs, nu⟩ := f
  obtain ⟨h1, h2, h3, h4⟩ := hf
  cases s with
  | true => exact ⟨y :: (ns ++ nu), ⟨x, xs, ns, nu, rfl, h1, h2.1, h2.2, h, h3, h4⟩, List.Perm.refl _⟩
  | false => exact ⟨y :: (nu ++ ns), ⟨xs, x, nu, ns, rfl, h1, h2.1, h2.2, h3, h, h4⟩, List.Perm.cons _ List.perm_append_comm⟩
theorem plug_rep {σ : Nat → Nat → Int} : ∀ {ctx : List FrT} {t : TT} {x : Nat} {ns : List Nat}, RepM σ t x ns → CtxM σ x ctx → ∃ ns', RepM σ (plug ctx t) (rootC x ctx) ns' ∧ ns'.Perm (ns ++ cn ctx)
  | [], t, x, ns, h, _ => ⟨ns, h, by simp [cn]⟩
  | f :: r, t, x, ns, h, hc => by
    obtain ⟨n1, h1, p1⟩ := fill_rep h hc.1
    obtain ⟨n2, h2, p2⟩ := plug_rep h1 hc.2
    refine ⟨n2, h2, p2.trans ?_⟩
    rw [List.perm_iff_count] at p1 ⊢
    intro a
    have := p1 a
    simp [cn, List.count_cons] at this ⊢
    omega
theorem tl_fill (f : FrT) (t : TT) : (tl (fill f t)).length = (tl t).length + (tl f.2.2.2.1).length := by
  unfold fill
  split <;> simp [tl] <;> omega
theorem tl_plug : ∀ (ctx : List FrT) (t : TT), (tl t).length ≤ (tl (plug ctx t)).length
  | [], t => Nat.le_refl _
  | f :: r, t => by
    have h1 := tl_plug r (fill f t)
    have h2 := tl_fill f t
    show _ ≤ (tl (plug r (fill f t))).length
    omega
theorem mem_fill {f : FrT} {t : TT} {j : Nat} (h : j ∈ tl t) : j ∈ tl (fill f t) := by
  unfold fill
  split
  · exact List.mem_append_left _ h
  · exact List.mem_append_right _ h
theorem mem_plug : ∀ {ctx : List FrT} {t : TT} {j : Nat}, j ∈ tl t → j ∈ tl (plug ctx t)
  | [], _, _, h => h
  | f :: r, t, j, h => mem_plug (ctx := r) (t := fill f t) (mem_fill h)
/-- a child's place in its tree -/
theorem RepM.child {σ : Nat → Nat → Int} : ∀ {t : TT} {x : Nat} {ns : List Nat}, RepM σ t x ns → ∀ {z c : Nat}, z ∈ ns → 0 ≤ σ 6 z → (σ 6 z = c ∨ σ 7 z = c) → c ∈ ns.tail
  | .leaf j, x, ns, h, z, c, hz, h0, _ => by
    rw [h.1] at hz
    simp at hz
    rw [hz, h.2.2.1] at h0
    omega
  | .branch κ a b, x, ns, ⟨xa, xb, na, nb, e, h1, h2, h3, h4, h5, _⟩, z, c, hz, h0, hc => by
    obtain ⟨ra, hra⟩ := h4.hd
    obtain ⟨rb, hrb⟩ := h5.hd
    rw [e] at hz ⊢
    show c ∈ na ++ nb
    rcases List.mem_cons.mp hz with e1 | e1
    · subst e1
      rcases hc with q | q
      · rw [h2] at q
        have : xa = c := by omega
        rw [← this, hra]
        simp
      · rw [h3] at q
        have : xb = c := by omega
        rw [← this, hrb]
        simp
    · rcases List.mem_append.mp e1 with e2 | e2
      · exact List.mem_append_left _ (List.mem_of_mem_tail (h4.child e2 h0 hc))
      · exact List.mem_append_right _ (List.mem_of_mem_tail (h5.child e2 h0 hc))
/-- no node has two above it -/
theorem RepM.one {σ : Nat → Nat → Int} : ∀ {t : TT} {x : Nat} {ns : List Nat}, RepM σ t x ns → ns.Nodup → ∀ {z w c : Nat}, z ∈ ns → w ∈ ns → 0 ≤ σ 6 z → 0 ≤ σ 6 w → (σ 6 z = c ∨ σ 7 z = c) → (σ 6 w = c ∨ σ 7 w = c) → z = w
  | .leaf j, x, ns, h, _, z, w, c, hz, hw, _, _, _, _ => by
    rw [h.1] at hz hw
    simp at hz hw
    rw [hz, hw]
  | .branch κ a b, x, ns, ⟨xa, xb, na, nb, e, h1, h2, h3, h4, h5, _⟩, hn, z, w, c, hz, hw, h0, g0, hc, gc => by
    obtain ⟨ra, hra⟩ := h4.hd
    obtain ⟨rb, hrb⟩ := h5.hd
    rw [e] at hz hw hn
    have hn2 := (List.nodup_cons.mp hn).2
    have hna := (List.nodup_append.mp hn2).1
    have hnb := (List.nodup_append.mp hn2).2.1
    have hd := (List.nodup_append.mp hn2).2.2
    have top : (σ 6 x = c ∨ σ 7 x = c) → c = xa ∨ c = xb := by
      rintro (q | q)
      · left; omega
      · right; omega
    have low : ∀ v, v ∈ na ++ nb → 0 ≤ σ 6 v → (σ 6 v = c ∨ σ 7 v = c) → (c ∈ na.tail ∨ c ∈ nb.tail) := by
      intro v hv v0 vc
      rcases List.mem_append.mp hv with q | q
      · exact Or.inl (h4.child q v0 vc)
      · exact Or.inr (h5.child q v0 vc)
    have clash : (c = xa ∨ c = xb) → (c ∈ na.tail ∨ c ∈ nb.tail) → False := by
      rintro (q | q) (r | r)
      · rw [hra, q] at r
        rw [hra] at hna
        exact (List.nodup_cons.mp hna).1 r
      · exact hd c (by rw [hra, q]; simp) c (List.mem_of_mem_tail r) rfl
      · exact hd c (List.mem_of_mem_tail r) c (by rw [hrb, q]; simp) rfl
      · rw [hrb, q] at r
        rw [hrb] at hnb
        exact (List.nodup_cons.mp hnb).1 r
    rcases List.mem_cons.mp hz with e1 | e1 <;> rcases List.mem_cons.mp hw with e2 | e2
    · rw [e1, e2]
    · rw [e1] at hc
      exact (clash (top hc) (low w e2 g0 gc)).elim
    · rw [e2] at gc
      exact (clash (top gc) (low z e1 h0 hc)).elim
    · rcases List.mem_append.mp e1 with q | q <;> rcases List.mem_append.mp e2 with r | r
      · exact h4.one hna q r h0 g0 hc gc
      · exact (hd c (List.mem_of_mem_tail (h4.child q h0 hc)) c (List.mem_of_mem_tail (h5.child r g0 gc)) rfl).elim
      · exact (hd c (List.mem_of_mem_tail (h4.child r g0 gc)) c (List.mem_of_mem_tail (h5.child q h0 hc)) rfl).elim
      · exact h5.one hnb q r h0 g0 hc gc
theorem abv_eq {σ : Nat → Nat → Int} {c : Int} {y : Nat} (hy : 0 ≤ σ 6 y ∧ (σ 6 y = c ∨ σ 7 y = c)) : ∀ n, y < n → (∀ z, z < n → 0 ≤ σ 6 z ∧ (σ 6 z = c ∨ σ 7 z = c) → z = y) → abv σ c n = y
  | 0, h, _ => by omega
  | n + 1, h, hu => by
    unfold abv
    by_cases q : 0 ≤ σ 6 n ∧ (σ 6 n = c ∨ σ 7 n = c)
    · rw [if_pos q, hu n (by omega) q]
    · rw [if_neg q]
      have : n ≠ y := fun e => q (by rw [e]; exact hy)
      exact abv_eq hy n (by omega) (fun z hz => hu z (by omega))
theorem abv_no {σ : Nat → Nat → Int} {c : Int} : ∀ n, (∀ z, z < n → ¬ (0 ≤ σ 6 z ∧ (σ 6 z = c ∨ σ 7 z = c))) → abv σ c n = -4
  | 0, _ => rfl
  | n + 1, hu => by
    unfold abv
    rw [if_neg (hu n (by omega))]
    exact abv_no n (fun z hz => hu z (by omega))
theorem UsM.in {σ : Nat → Nat → Int} {us : List Nat} (h : UsM σ us) {z : Nat} (hz : z < 24) (h0 : 0 ≤ σ 6 z) : z ∈ us := by
  by_cases e : z ∈ us
  · exact e
  · have := (h.2.2 z hz).mpr e
    omega
/-- the node above a place -/
theorem abv_ctx {σ : Nat → Nat → Int} {t : TT} {x : Nat} {ns : List Nat} {f : FrT} {r : List FrT} (h : RepM σ t x ns) (hc : CtxM σ x (f :: r)) (hu : UsM σ (ns ++ cn (f :: r))) : abv σ x 24 = f.1 := by
  obtain ⟨n1, h1, p1⟩ := plug_rep h hc
  have hu1 := hu.perm p1.symm
  obtain ⟨n2, h2, p2⟩ := fill_rep h hc.1
  have hf := hc.1
  have hin : f.1 ∈ n1 := by
    rw [p1.mem_iff]
    simp [cn]
  have hy : 0 ≤ σ 6 f.1 ∧ (σ 6 f.1 = x ∨ σ 7 f.1 = x) := by
    have := hf.2.1
    split at this
    · exact ⟨by omega, Or.inl this.1⟩
    · exact ⟨by omega, Or.inr this.2⟩
  refine abv_eq hy 24 hf.1 (fun z hz hq => ?_)
  exact h1.one hu1.1 (hu1.in hz hq.1) hin hq.1 hy.1 hq.2 hy.2
theorem abv_root {σ : Nat → Nat → Int} {t : TT} {x : Nat} {ns : List Nat} (h : RepM σ t x ns) (hu : UsM σ ns) : abv σ x 24 = -4 := by
  refine abv_no 24 (fun z hz hq => ?_)
  have h1 := h.child (hu.in hz hq.1) hq.1 hq.2
  obtain ⟨r, hr⟩ := h.hd
  rw [hr] at h1
  have := hu.1
  rw [hr] at this
  exact (List.nodup_cons.mp this).1 h1
theorem CtxM.cong {σ σ' : Nat → Nat → Int} : ∀ {ctx : List FrT} {x : Nat}, CtxM σ x ctx → (∀ y ∈ cn ctx, σ' 6 y = σ 6 y ∧ σ' 7 y = σ 7 y ∧ σ' 8 y = σ 8 y ∧ σ' 9 y = σ 9 y ∧ σ' 10 y = σ 10 y) → (∀ f ∈ ctx, ∀ j ∈ tl f.2.2.2.1, σ' 2 j = σ 2 j) → CtxM σ' x ctx
  | [], _, _, _, _ => trivial
  | f :: r, x, h, hy, hj => by
    obtain ⟨q6, q7, q8, q9, q10⟩ := hy f.1 (by simp [cn])
    obtain ⟨a, b, c, d⟩ := h.1
    refine ⟨⟨a, by rw [q6, q7]; exact b, c.cong (fun y h2 => hy y (by simp [cn, h2])) (fun j h2 => hj f (by simp) j h2), by rw [q9, q10]; exact d⟩, h.2.cong (fun y h2 => hy y (by simp [cn, h2])) (fun f2 h2 => hj f2 (by simp [h2]))⟩
theorem CtxM.off {fs : List Nat} {γ g : GG} (h : Off0 fs γ g) (hf : (fs.contains 2 || fs.contains 6 || fs.contains 7 || fs.contains 8 || fs.contains 9 || fs.contains 10) = false) {x : Nat} {ctx : List FrT} (r : CtxM (γ 0) x ctx) : CtxM (g 0) x ctx := by
  simp only [Bool.or_eq_false_iff] at hf
  obtain ⟨⟨⟨⟨⟨h2, h6⟩, h7⟩, h8⟩, h9⟩, h10⟩ := hf
  refine r.cong (fun y _ => ?_) (fun f _ j _ => ?_)
  · rw [h.f 6 h6, h.f 7 h7, h.f 8 h8, h.f 9 h9, h.f 10 h10]
    exact ⟨rfl, rfl, rfl, rfl, rfl⟩
  · rw [h.f 2 h2]
theorem UsM.off {fs : List Nat} {γ g : GG} (h : Off0 fs γ g) (hf : fs.contains 6 = false) {us : List Nat} (u : UsM (γ 0) us) : UsM (g 0) us := u.cong (fun z _ => by rw [h.f 6 hf])
def leansB : TT → Bool
  | .leaf _ => false
  | .branch _ a b => decide ((tl a).length > 2 * (tl b).length + 1) || decide ((tl b).length > 2 * (tl a).length + 1)
/-- the uppermost of those above a place that leans -/
def sett : List FrT → TT → Option (TT × Nat × List FrT)
  | [], _ => none
  | f :: r, t => match sett r (fill f t) with
    | some q => some q
    | none => if leansB (fill f t) = true then some (fill f t, f.1, r) else none
def settT (κ : Nat → Nat) (ctx : List FrT) (t : TT) : TT := match sett ctx t with
  | some q => plug q.2.2 (bld κ (tl q.1))
  | none => plug ctx t
def settN (ctx : List FrT) (t : TT) : Nat := match sett ctx t with
  | some _ => 1
  | none => 0
