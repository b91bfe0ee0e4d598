/-! a job taken out of a tree -/
def isL : TT → Bool
  | .leaf _ => true
  | .branch _ _ _ => false
def sp : TT → List Nat
  | .leaf _ => []
  | .branch s a b => s :: (sp a ++ sp b)
/-- leaves and splits in order -/
def OrdT (κ : Nat → Nat) : TT → Prop
  | .leaf _ => True
  | .branch s a b => (∀ j ∈ tl a, κ j ≤ s) ∧ (∀ j ∈ tl b, s < κ j) ∧ (∀ q ∈ sp a, q ≤ s) ∧ (∀ q ∈ sp b, s < q) ∧ OrdT κ a ∧ OrdT κ b
def delT (k : Nat) : TT → TT
  | .leaf q => .leaf q
  | .branch s a b => if k ≤ s then (if isL a = true then b else .branch s (delT k a) b) else (if isL b = true then a else .branch s a (delT k b))
def cutT (κ : Nat → Nat) (k : Nat) : TT → TT × Nat
  | .leaf q => (.leaf q, 0)
  | .branch s a b => if k ≤ s then (if isL a = true then (b, 0) else if leansB (.branch s (delT k a) b) = true then (bld κ (tl (delT k a) ++ tl b), 1) else (.branch s (cutT κ k a).1 b, (cutT κ k a).2))
    else (if isL b = true then (a, 0) else if leansB (.branch s a (delT k b)) = true then (bld κ (tl a ++ tl (delT k b)), 1) else (.branch s a (cutT κ k b).1, (cutT κ k b).2))
theorem isL_fill (f : FrT) (u : TT) : isL (fill f u) = false := by unfold fill; split <;> rfl
theorem del_fill {k : Nat} {f : FrT} (hf : f.2.2.1 = true ↔ k ≤ f.2.1) {u : TT} (hu : isL u = false) : delT k (fill f u) = fill f (delT k u) := by
  unfold fill
  by_cases h : f.2.2.1 = true
  · rw [if_pos h, if_pos h]
    show (if _ then _ else _) = _
    rw [if_pos (hf.mp h), if_neg (by rw [hu]; decide)]
  · rw [if_neg h, if_neg h]
    show (if _ then _ else _) = _
    rw [if_neg (fun q => h (hf.mpr q)), if_neg (by rw [hu]; decide)]
theorem cut_fill {κ : Nat → Nat} {k : Nat} {f : FrT} (hf : f.2.2.1 = true ↔ k ≤ f.2.1) {u : TT} (hu : isL u = false) : cutT κ k (fill f u) = if leansB (fill f (delT k u)) = true then (bld κ (tl (fill f (delT k u))), 1) else (fill f (cutT κ k u).1, (cutT κ k u).2) := by
  unfold fill
  by_cases h : f.2.2.1 = true
  · rw [if_pos h, if_pos h, if_pos h]
    show (if _ then _ else _) = _
    rw [if_pos (hf.mp h), if_neg (by rw [hu]; decide)]
    rfl
  · rw [if_neg h, if_neg h, if_neg h]
    show (if _ then _ else _) = _
    rw [if_neg (fun q => h (hf.mpr q)), if_neg (by rw [hu]; decide)]
    rfl
theorem cut_plug {κ : Nat → Nat} {k : Nat} : ∀ (ctx : List FrT) (u : TT), Pth k ctx → isL u = false → cutT κ k (plug ctx u) = match sett ctx (delT k u) with
    | some q => (plug q.2.2 (bld κ (tl q.1)), 1)
    | none => (plug ctx (cutT κ k u).1, (cutT κ k u).2)
  | [], u, _, _ => rfl
  | f :: r, u, h, hu => by
    have hf := h f List.mem_cons_self
    have h1 := cut_plug (κ := κ) r (fill f u) (fun q hq => h q (List.mem_cons_of_mem _ hq)) (isL_fill f u)
    rw [del_fill hf hu] at h1
    show cutT κ k (plug r (fill f u)) = match (match sett r (fill f (delT k u)) with | some q => some q | none => if leansB (fill f (delT k u)) = true then some (fill f (delT k u), f.1, r) else none) with
      | some q => (plug q.2.2 (bld κ (tl q.1)), 1)
      | none => (plug r (fill f (cutT κ k u).1), (cutT κ k u).2)
    rw [h1]
    cases sett r (fill f (delT k u)) with
    | some q => rfl
    | none =>
      dsimp only
      rw [cut_fill hf hu]
      by_cases q : leansB (fill f (delT k u)) = true
      · rw [if_pos q, if_pos q]
      · rw [if_neg q, if_neg q]
theorem del_leaf {k : Nat} {f : FrT} (hf : f.2.2.1 = true ↔ k ≤ f.2.1) (j : Nat) : delT k (fill f (.leaf j)) = f.2.2.2.1 := by
  unfold fill
  by_cases h : f.2.2.1 = true
  · rw [if_pos h]
    show (if _ then _ else _) = _
    rw [if_pos (hf.mp h)]
    rfl
  · rw [if_neg h]
    show (if _ then _ else _) = _
    rw [if_neg (fun q => h (hf.mpr q))]
    rfl
theorem cut_leaf {κ : Nat → Nat} {k : Nat} {f : FrT} (hf : f.2.2.1 = true ↔ k ≤ f.2.1) (j : Nat) : cutT κ k (fill f (.leaf j)) = (f.2.2.2.1, 0) := by
  unfold fill
  by_cases h : f.2.2.1 = true
  · rw [if_pos h]
    show (if _ then _ else _) = _
    rw [if_pos (hf.mp h)]
    rfl
  · rw [if_neg h]
    show (if _ then _ else _) = _
    rw [if_neg (fun q => h (hf.mpr q))]
    rfl
/-- taken out as from above -/
theorem sett_cut {κ : Nat → Nat} {k : Nat} {f : FrT} {r : List FrT} (h : Pth k (f :: r)) (j : Nat) : cutT κ k (plug (f :: r) (.leaf j)) = (settT κ r f.2.2.2.1, settN r f.2.2.2.1) := by
  have hf := h f List.mem_cons_self
  show cutT κ k (plug r (fill f (.leaf j))) = _
  rw [cut_plug r _ (fun q hq => h q (List.mem_cons_of_mem _ hq)) (isL_fill f _), del_leaf hf, cut_leaf hf]
  unfold settT settN
  cases sett r f.2.2.2.1 <;> rfl
/-- the way to a job's leaf -/
theorem way {κ : Nat → Nat} {σ : Nat → Nat → Int} : ∀ {t : TT} {x : Nat} {ns : List Nat} {ctx : List FrT}, RepM σ t x ns → CtxM σ x ctx → OrdT κ t → ∀ {j : Nat}, j ∈ tl t → Pth (κ j) ctx → ∃ (y : Nat) (c2 : List FrT), RepM σ (.leaf j) y [y] ∧ CtxM σ y (c2 ++ ctx) ∧ plug (c2 ++ ctx) (.leaf j) = plug ctx t ∧ Pth (κ j) (c2 ++ ctx) ∧ rootC y (c2 ++ ctx) = rootC x ctx ∧ (y :: cn (c2 ++ ctx)).Perm (ns ++ cn ctx)
  | .leaf q, x, ns, ctx, h, hc, _, j, hj, hp => by
    simp [tl] at hj
    subst hj
    have e := h.1
    exact ⟨x, [], by rw [← e]; exact h, hc, rfl, hp, rfl, by rw [e]; exact List.Perm.refl _⟩
  | .branch s a b, x, ns, ctx, ⟨xa, xb, na, nb, e1, e2, e3, e4, e5, e6, e7, e8⟩, hc, ho, j, hj, hp => by
    rcases List.mem_append.mp hj with q | q
    · obtain ⟨y, c2, r1, r2, r3, r4, r5, r6⟩ := way (ctx := (x, s, true, b, xb, nb) :: ctx) e5 ⟨⟨e2, ⟨e3, e4⟩, e6, e7, e8⟩, hc⟩ ho.2.2.2.2.1 q (fun f hf => by
        rcases List.mem_cons.mp hf with e | e
        · rw [e]; exact ⟨fun _ => ho.1 j q, fun _ => rfl⟩
        · exact hp f e)
      have as : c2 ++ [(x, s, true, b, xb, nb)] ++ ctx = c2 ++ (x, s, true, b, xb, nb) :: ctx := by simp
      refine ⟨y, c2 ++ [(x, s, true, b, xb, nb)], r1, by rw [as]; exact r2, by rw [as]; exact r3, by rw [as]; exact r4, by rw [as]; exact r5, ?_⟩
      rw [as]
      refine r6.trans ?_
      rw [e1, List.perm_iff_count]
      intro z
      simp [cn, List.count_cons]
      omega
    · obtain ⟨y, c2, r1, r2, r3, r4, r5, r6⟩ := way (ctx := (x, s, false, a, xa, na) :: ctx) e6 ⟨⟨e2, ⟨e3, e4⟩, e5, e7, e8⟩, hc⟩ ho.2.2.2.2.2 q (fun f hf => by
        rcases List.mem_cons.mp hf with e | e
        · rw [e]; exact ⟨fun z => (by cases z), fun z => absurd z (by have := ho.2.1 j q; show ¬ κ j ≤ s; omega)⟩
        · exact hp f e)
      have as : c2 ++ [(x, s, false, a, xa, na)] ++ ctx = c2 ++ (x, s, false, a, xa, na) :: ctx := by simp
      refine ⟨y, c2 ++ [(x, s, false, a, xa, na)], r1, by rw [as]; exact r2, by rw [as]; exact r3, by rw [as]; exact r4, by rw [as]; exact r5, ?_⟩
      rw [as]
      refine r6.trans ?_
      rw [e1, List.perm_iff_count]
      intro z
      simp [cn, List.count_cons]
      omega
theorem RepM.ljob {σ : Nat → Nat → Int} : ∀ {t : TT} {x : Nat} {ns : List Nat}, RepM σ t x ns → ∀ {z : Nat}, z ∈ ns → σ 6 z = -1 → ∃ j ∈ tl t, σ 8 z = (j : Int)
  | .leaf j, x, ns, h, z, hz, _ => by
    rw [h.1] at hz
    simp at hz
    exact ⟨j, by simp [tl], by rw [hz]; exact h.2.2.2.1⟩
  | .branch s a b, x, ns, ⟨xa, xb, na, nb, e1, e2, e3, e4, e5, e6, _⟩, z, hz, h1 => by
    rw [e1] at hz
    rcases List.mem_cons.mp hz with e | e
    · rw [e, e3] at h1
      omega
    · rcases List.mem_append.mp e with q | q
      · obtain ⟨j, h2, h3⟩ := e5.ljob q h1
        exact ⟨j, List.mem_append_left _ h2, h3⟩
      · obtain ⟨j, h2, h3⟩ := e6.ljob q h1
        exact ⟨j, List.mem_append_right _ h2, h3⟩
theorem RepM.leafu {σ : Nat → Nat → Int} : ∀ {t : TT} {x : Nat} {ns : List Nat}, RepM σ t x ns → (tl t).Nodup → ∀ {z w : Nat}, z ∈ ns → w ∈ ns → σ 6 z = -1 → σ 6 w = -1 → σ 8 z = σ 8 w → z = w
  | .leaf j, x, ns, h, _, z, w, hz, hw, _, _, _ => by
    rw [h.1] at hz hw
    simp at hz hw
    rw [hz, hw]
  | .branch s a b, x, ns, ⟨xa, xb, na, nb, e1, e2, e3, e4, e5, e6, _⟩, hn, z, w, hz, hw, h1, h2, h3 => by
    have hn' := List.nodup_append.mp hn
    rw [e1] at hz hw
    rcases List.mem_cons.mp hz with e | e
    · rw [e, e3] at h1
      omega
    · rcases List.mem_cons.mp hw with e' | e'
      · rw [e', e3] at h2
        omega
      · rcases List.mem_append.mp e with q | q <;> rcases List.mem_append.mp e' with q' | q'
        · exact e5.leafu hn'.1 q q' h1 h2 h3
        · obtain ⟨i, i1, i2⟩ := e5.ljob q h1
          obtain ⟨k, k1, k2⟩ := e6.ljob q' h2
          have : i = k := by omega
          exact absurd rfl (hn'.2.2 i i1 i (by rw [this]; exact k1))
        · obtain ⟨i, i1, i2⟩ := e6.ljob q h1
          obtain ⟨k, k1, k2⟩ := e5.ljob q' h2
          have : i = k := by omega
          exact absurd rfl (hn'.2.2 k k1 k (by rw [← this]; exact i1))
        · exact e6.leafu hn'.2.1 q q' h1 h2 h3
theorem lfo_eq {σ : Nat → Nat → Int} {c : Int} {y : Nat} (hy : σ 6 y = -1 ∧ σ 8 y = c) : ∀ n, y < n → (∀ z, z < n → σ 6 z = -1 ∧ σ 8 z = c → z = y) → lfo σ c n = y
  | 0, h, _ => by omega
  | n + 1, h, hu => by
    unfold lfo
    by_cases q : σ 6 n = -1 ∧ σ 8 n = c
    · rw [if_pos q, hu n (by omega) q]
    · rw [if_neg q]
      have : n ≠ y := fun e => q (by rw [e]; exact hy)
      exact lfo_eq hy n (by omega) (fun z hz => hu z (by omega))
/-- the leaf of a job by its row -/
theorem leafOf_is {σ : Nat → Nat → Int} {t : TT} {x : Nat} {ns : List Nat} (h : RepM σ t x ns) (hu : UsM σ ns) (hn : (tl t).Nodup) {j y : Nat} (hy : y ∈ ns) (h6 : σ 6 y = -1) (h8 : σ 8 y = (j : Int)) : lfo σ (j : Int) 24 = (y : Int) := by
  refine lfo_eq ⟨h6, h8⟩ 24 (hu.2.1 y hy) (fun z hz hq => ?_)
  have hz2 : z ∈ ns := by
    by_cases e : z ∈ ns
    · exact e
    · have := (hu.2.2 z hz).mpr e
      omega
  exact h.leafu hn hz2 hy hq.1 h6 (by rw [hq.2, h8])
/-- a tree's root moved to another node -/
theorem RepM.moved {σ σ' : Nat → Nat → Int} {t : TT} {x y : Nat} {r : List Nat} (h : RepM σ t x (x :: r)) (hy : y < 24) (h6 : σ' 6 y = σ 6 x) (h7 : σ' 7 y = σ 7 x) (h8 : σ' 8 y = σ 8 x) (h9 : σ' 9 y = σ 9 x) (h10 : σ' 10 y = σ 10 x) (hr : ∀ z ∈ r, σ' 6 z = σ 6 z ∧ σ' 7 z = σ 7 z ∧ σ' 8 z = σ 8 z ∧ σ' 9 z = σ 9 z ∧ σ' 10 z = σ 10 z) (hj : ∀ j ∈ tl t, σ' 2 j = σ 2 j) : RepM σ' t y (y :: r) := by
  cases t with
  | leaf j =>
    obtain ⟨e1, e2, e3, e4, e5, e6, e7⟩ := h
    have : r = [] := by simpa using e1
    subst this
    exact ⟨rfl, hy, by rw [h6]; exact e3, by rw [h8]; exact e4, by rw [h9, hj j (by simp [tl])]; exact e5, by rw [h10]; exact e6, e7⟩
  | branch s a b =>
    obtain ⟨xa, xb, na, nb, e1, e2, e3, e4, e5, e6, e7, e8⟩ := h
    have : r = na ++ nb := by simpa using e1
    subst this
    exact ⟨xa, xb, na, nb, rfl, hy, by rw [h6]; exact e3, by rw [h7]; exact e4, e5.cong (fun z hz => hr z (List.mem_append_left _ hz)) (fun j hj2 => hj j (List.mem_append_left _ hj2)), e6.cong (fun z hz => hr z (List.mem_append_right _ hz)) (fun j hj2 => hj j (List.mem_append_right _ hj2)), by rw [h9, h10]; exact e7, by rw [h9, h10]; exact e8⟩
theorem xor_bit (b j i : Nat) : (b ^^^ (b &&& 2 ^ j)).testBit i = (b.testBit i && !decide (j = i)) := by
  rw [Nat.testBit_xor, Nat.testBit_and, Nat.testBit_two_pow]
  cases b.testBit i <;> cases decide (j = i) <;> rfl
theorem xor_lt {b j : Nat} (h : b < 4096) : b ^^^ (b &&& 2 ^ j) < 4096 := Nat.xor_lt_two_pow (n := 12) h (Nat.lt_of_le_of_lt Nat.and_le_left h)
