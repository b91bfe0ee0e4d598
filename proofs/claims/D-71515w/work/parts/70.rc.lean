/-! the component: a State's tree, with what its nodes hold -/
def ad1 (S : Nat → Bool) (j : Nat) : Nat → Bool := fun i => S i || decide (i = j)
def RC (T : Nat → Nat → Int) (σ : Nat → Nat → Int) : TT → Nat → (Nat → Bool) → List Nat → Prop
  | .leaf j, x, S, ns => ns = [x] ∧ x < 23 ∧ σ 21 x = -1 ∧ σ 22 x = -1 ∧ σ 23 x = T 2 j ∧ σ 24 x = (j : Int) ∧ σ 26 x = 1 ∧ σ 25 x = bst (rkT T) S [j]
  | .branch κ a b, x, S, ns => ∃ (xa xb : Nat) (na nb : List Nat), ns = x :: (na ++ nb) ∧ x < 23 ∧ σ 21 x = (xa : Int) ∧ σ 22 x = (xb : Int) ∧ ((κ : Int) = 16 * σ 23 x + σ 24 x ∧ (0 ≤ σ 24 x ∧ σ 24 x < 12) ∧ 0 ≤ σ 23 x ∧ σ 23 x ≤ 99) ∧ σ 26 x = ((tl a).length + (tl b).length : Int) ∧ σ 25 x = bst (rkT T) S (tl a ++ tl b) ∧ RC T σ a xa (wo S (bst (rkT T) S (tl a ++ tl b))) na ∧ RC T σ b xb (wo S (bst (rkT T) S (tl a ++ tl b))) nb
def SmN (σ σ' : Nat → Nat → Int) (z : Nat) : Prop := ∀ f, 21 ≤ f → f ≤ 26 → σ' f z = σ f z
theorem RC.lt {T σ : Nat → Nat → Int} : ∀ {t : TT} {x : Nat} {S : Nat → Bool} {ns : List Nat}, RC T σ t x S ns → x < 23
  | .leaf _, _, _, _, h => h.2.1
  | .branch _ _ _, _, _, _, ⟨_, _, _, _, _, h, _⟩ => h
theorem RC.hd {T σ : Nat → Nat → Int} : ∀ {t : TT} {x : Nat} {S : Nat → Bool} {ns : List Nat}, RC T σ t x S ns → ∃ r, ns = x :: r
  | .leaf _, x, _, _, h => ⟨[], h.1⟩
  | .branch _ _ _, _, _, _, ⟨_, _, na, nb, h, _⟩ => ⟨na ++ nb, h⟩
theorem RC.me {T σ : Nat → Nat → Int} {t : TT} {x : Nat} {S : Nat → Bool} {ns : List Nat} (h : RC T σ t x S ns) : x ∈ ns := by
  obtain ⟨r, e⟩ := h.hd
  rw [e]
  exact List.mem_cons_self
theorem RC.all {T σ : Nat → Nat → Int} : ∀ {t : TT} {x : Nat} {S : Nat → Bool} {ns : List Nat}, RC T σ t x S ns → ∀ y ∈ ns, y < 23
  | .leaf _, x, _, _, h, y, hy => by rw [h.1] at hy; simp at hy; rw [hy]; exact h.2.1
  | .branch _ _ _, _, _, _, ⟨_, _, na, nb, h, h2, _, _, _, _, _, h3, h4⟩, y, hy => by
    rw [h] at hy
    rcases List.mem_cons.mp hy with e | e
    · rw [e]; exact h2
    · rcases List.mem_append.mp e with e | e
      · exact h3.all y e
      · exact h4.all y e
theorem RC.len {T σ : Nat → Nat → Int} : ∀ {t : TT} {x : Nat} {S : Nat → Bool} {ns : List Nat}, RC T σ t x S ns → ns.length = nn t
  | .leaf _, x, _, _, h => by rw [h.1]; rfl
  | .branch _ _ _, _, _, _, ⟨_, _, na, nb, h, h2, _, _, _, _, _, h3, h4⟩ => by
    rw [h]
    simp [nn, h3.len, h4.len]
    omega
theorem RC.hold {T σ : Nat → Nat → Int} : ∀ {t : TT} {x : Nat} {S : Nat → Bool} {ns : List Nat}, RC T σ t x S ns → σ 25 x = bst (rkT T) S (tl t)
  | .leaf _, x, _, _, h => h.2.2.2.2.2.2.2
  | .branch _ _ _, _, _, _, ⟨_, _, _, _, _, _, _, _, _, _, h, _⟩ => h
theorem RC.lvs {T σ : Nat → Nat → Int} : ∀ {t : TT} {x : Nat} {S : Nat → Bool} {ns : List Nat}, RC T σ t x S ns → σ 26 x = ((tl t).length : Int)
  | .leaf _, x, _, _, h => h.2.2.2.2.2.2.1
  | .branch _ a b, _, _, _, ⟨_, _, _, _, _, _, _, _, _, h, _⟩ => by rw [h]; simp [tl]
theorem RC.cg {T σ σ' : Nat → Nat → Int} : ∀ {t : TT} {x : Nat} {S : Nat → Bool} {ns : List Nat}, RC T σ t x S ns → (∀ z ∈ ns, SmN σ σ' z) → RC T σ' t x S ns
  | .leaf j, x, S, ns, h, hs => by
    obtain ⟨e, h1, h2, h3, h4, h5, h6, h7⟩ := h
    have q := hs x (by rw [e]; exact List.mem_cons_self)
    exact ⟨e, h1, by rw [q 21 (by omega) (by omega)]; exact h2, by rw [q 22 (by omega) (by omega)]; exact h3, by rw [q 23 (by omega) (by omega)]; exact h4, by rw [q 24 (by omega) (by omega)]; exact h5, by rw [q 26 (by omega) (by omega)]; exact h6, by rw [q 25 (by omega) (by omega)]; exact h7⟩
  | .branch κ a b, x, S, ns, h, hs => by
    obtain ⟨xa, xb, na, nb, e, h1, h2, h3, h4, h5, h6, h7, h8⟩ := h
    have q := hs x (by rw [e]; exact List.mem_cons_self)
    refine ⟨xa, xb, na, nb, e, h1, by rw [q 21 (by omega) (by omega)]; exact h2, by rw [q 22 (by omega) (by omega)]; exact h3, by rw [q 23 (by omega) (by omega), q 24 (by omega) (by omega)]; exact h4, by rw [q 26 (by omega) (by omega)]; exact h5, by rw [q 25 (by omega) (by omega)]; exact h6, h7.cg (fun z hz => hs z ?_), h8.cg (fun z hz => hs z ?_)⟩
    · rw [e]; exact List.mem_cons_of_mem _ (List.mem_append_left _ hz)
    · rw [e]; exact List.mem_cons_of_mem _ (List.mem_append_right _ hz)
/-- only who is told by S counts -/
theorem bst_m {R R' : Nat → Int} {S S' : Nat → Bool} {L L' : List Nat} (hm : ∀ j, (j ∈ L ∧ S j = true) ↔ (j ∈ L' ∧ S' j = true)) (hR : ∀ j ∈ L, S j = true → R j = R' j) : bst R S L = bst R' S' L' := by
  have h1 := bst_spec R S L
  have h2 : IsB R' (fun j => j ∈ L' ∧ S' j = true) (bst R S L) := by
    rcases h1 with ⟨e, h⟩ | ⟨j, e, h, h2⟩
    · exact Or.inl ⟨e, fun j q => h j ((hm j).mpr q)⟩
    · refine Or.inr ⟨j, e, (hm j).mp h, fun i q hne => ?_⟩
      have qi := (hm i).mpr q
      have := h2 i qi hne
      unfold ahd at this ⊢
      rw [← hR j h.1 h.2, ← hR i qi.1 qi.2]
      exact this
  exact h2.uq (bst_spec R' S' L')
theorem wo_le {S : Nat → Bool} {v : Int} {i : Nat} (h : wo S v i = true) : S i = true := by
  unfold wo at h
  simp at h
  exact h.1
theorem RC.cgS {T T' σ : Nat → Nat → Int} : ∀ {t : TT} {x : Nat} {S S' : Nat → Bool} {ns : List Nat}, RC T σ t x S ns → (∀ j ∈ tl t, S j = S' j ∧ T 2 j = T' 2 j ∧ (S j = true → rkT T j = rkT T' j)) → RC T' σ t x S' ns
  | .leaf j, x, S, S', ns, h, hj => by
    obtain ⟨e, h1, h2, h3, h4, h5, h6, h7⟩ := h
    have q := hj j (by simp [tl])
    refine ⟨e, h1, h2, h3, by rw [← q.2.1]; exact h4, h5, h6, ?_⟩
    rw [h7]
    refine bst_m (fun i => ?_) (fun i hi hs => ?_)
    · simp
      intro e
      rw [e, q.1]
    · simp at hi
      rw [hi]
      rw [hi] at hs
      exact q.2.2 hs
  | .branch κ a b, x, S, S', ns, h, hj => by
    obtain ⟨xa, xb, na, nb, e, h1, h2, h3, h4, h5, h6, h7, h8⟩ := h
    have hj : ∀ j ∈ tl a ++ tl b, S j = S' j ∧ T 2 j = T' 2 j ∧ (S j = true → rkT T j = rkT T' j) := hj
    have eb : bst (rkT T) S (tl a ++ tl b) = bst (rkT T') S' (tl a ++ tl b) := bst_m (fun i => by
      constructor
      · intro q; exact ⟨q.1, by rw [← (hj i q.1).1]; exact q.2⟩
      · intro q; exact ⟨q.1, by rw [(hj i q.1).1]; exact q.2⟩) (fun i hi hs => (hj i hi).2.2 hs)
    refine ⟨xa, xb, na, nb, e, h1, h2, h3, h4, h5, by rw [← eb]; exact h6, ?_, ?_⟩
    · rw [← eb]
      refine h7.cgS (fun j q => ?_)
      obtain ⟨q1, q2, q3⟩ := hj j (List.mem_append_left _ q)
      exact ⟨by unfold wo; rw [q1], q2, fun q => q3 (wo_le q)⟩
    · rw [← eb]
      refine h8.cgS (fun j q => ?_)
      obtain ⟨q1, q2, q3⟩ := hj j (List.mem_append_right _ q)
      exact ⟨by unfold wo; rw [q1], q2, fun q => q3 (wo_le q)⟩
/-- a node holds nothing: nothing is told below -/
theorem bst_none {R : Nat → Int} {S : Nat → Bool} {L : List Nat} (h : bst R S L = -4) : ∀ j ∈ L, S j = false := by
  intro j hj
  rcases bst_spec R S L with ⟨_, q⟩ | ⟨i, e, _⟩
  · have := q j
    cases hs : S j with
    | false => rfl
    | true => exact absurd ⟨hj, hs⟩ this
  · omega
theorem bst_nat {R : Nat → Int} {S : Nat → Bool} {L : List Nat} (h : bst R S L ≠ -4) : ∃ i : Nat, bst R S L = (i : Int) ∧ i ∈ L ∧ S i = true := by
  rcases (bst_spec R S L).in with q | ⟨i, q, q2⟩
  · exact absurd q h
  · exact ⟨i, q, q2.1, q2.2⟩
theorem wo_n (S : Nat → Bool) : wo S (-4) = S := by
  funext i
  unfold wo
  rw [show decide ((i : Int) = -4) = false by simp]
  simp
/-- a job comes: it is the best, if it is ahead of who was -/
theorem bst_ad {R : Nat → Int} {S : Nat → Bool} {L : List Nat} {i j : Nat} (h : bst R S L = (i : Int)) (hj : j ∈ L) (hs : S j = false) : (ahd R j i → bst R (ad1 S j) L = (j : Int)) ∧ (¬ ahd R j i → bst R (ad1 S j) L = (i : Int)) := by
  have hb := bst_spec R S L
  rcases hb with ⟨e, _⟩ | ⟨i', e, h1, h2⟩
  · omega
  have e' : i' = i := by omega
  subst e'
  have hne : j ≠ i' := fun q => by rw [q, h1.2] at hs; cases hs
  have key : ∀ w : Nat, IsB R (fun q => q ∈ L ∧ ad1 S j q = true) (w : Int) → bst R (ad1 S j) L = (w : Int) := fun w q => (bst_spec R (ad1 S j) L).uq q
  have mm : ∀ q, ad1 S j q = true → S q = true ∨ q = j := fun q hq => by unfold ad1 at hq; simpa using hq
  constructor
  · intro ha
    refine key j (Or.inr ⟨j, rfl, ⟨hj, by unfold ad1; simp⟩, fun q hq hqn => ?_⟩)
    rcases mm q hq.2 with w | w
    · by_cases e2 : q = i'
      · rw [e2]; exact ha
      · have := h2 q ⟨hq.1, w⟩ e2
        unfold ahd at ha this ⊢
        omega
    · exact absurd w hqn
  · intro ha
    refine key i' (Or.inr ⟨i', rfl, ⟨h1.1, by unfold ad1; simp [h1.2]⟩, fun q hq hqn => ?_⟩)
    rcases mm q hq.2 with w | w
    · exact h2 q ⟨hq.1, w⟩ hqn
    · subst w
      unfold ahd at ha ⊢
      omega
theorem bst_ad0 {R : Nat → Int} {S : Nat → Bool} {L : List Nat} {j : Nat} (h : bst R S L = -4) (hj : j ∈ L) : bst R (ad1 S j) L = (j : Int) := by
  have hn := bst_none h
  refine (bst_spec R (ad1 S j) L).uq (Or.inr ⟨j, rfl, ⟨hj, by unfold ad1; simp⟩, fun q hq hqn => ?_⟩)
  have h1 := hn q hq.1
  have h2 := hq.2
  unfold ad1 at h2
  simp [h1] at h2
  exact absurd h2 hqn
theorem wo_ad {S : Nat → Bool} {i j : Nat} (hi : S i = true) (hj : S j = false) : wo (ad1 S j) (j : Int) = ad1 (wo S (i : Int)) i ∧ wo (ad1 S j) (i : Int) = ad1 (wo S (i : Int)) j := by
  have hne : j ≠ i := fun q => by rw [q, hi] at hj; cases hj
  constructor
  · funext q
    unfold wo ad1
    by_cases e1 : q = j
    · subst e1
      simp [hj, hne]
    · by_cases e2 : q = i
      · subst e2
        simp [hi]
        omega
      · cases hS : S q <;> simp [hS, e1, e2] <;> omega
  · funext q
    unfold wo ad1
    by_cases e1 : q = j
    · subst e1
      simp [hj]
      omega
    · by_cases e2 : q = i
      · subst e2
        simp [e1]
      · cases hS : S q <;> simp [hS, e1] <;> omega
/-- a job comes to a node that holds nothing -/
theorem RC.push0 {T σ : Nat → Nat → Int} {σ' : Nat → Nat → Int} {t : TT} {x : Nat} {S : Nat → Bool} {ns : List Nat} {j : Nat} (h : RC T σ t x S ns) (hn : ns.Nodup) (h0 : bst (rkT T) S (tl t) = -4) (hj : j ∈ tl t) (e1 : σ' 25 x = (j : Int)) (e2 : ∀ f z, ¬ (f = 25 ∧ z = x) → σ' f z = σ f z) : RC T σ' t x (ad1 S j) ns := by
  have hb := bst_ad0 h0 hj
  have hno := bst_none h0
  cases t with
  | leaf i =>
    obtain ⟨e, h1, h2, h3, h4, h5, h6, h7⟩ := h
    exact ⟨e, h1, by rw [e2 _ _ (by omega)]; exact h2, by rw [e2 _ _ (by omega)]; exact h3, by rw [e2 _ _ (by omega)]; exact h4, by rw [e2 _ _ (by omega)]; exact h5, by rw [e2 _ _ (by omega)]; exact h6, by rw [e1]; exact hb.symm⟩
  | branch κ a b =>
    obtain ⟨xa, xb, na, nb, e, h1, h2, h3, h4, h5, h6, h7, h8⟩ := h
    have hb : bst (rkT T) (ad1 S j) (tl a ++ tl b) = (j : Int) := hb
    have h0 : bst (rkT T) S (tl a ++ tl b) = -4 := h0
    have hno : ∀ q ∈ tl a ++ tl b, S q = false := hno
    rw [h0, wo_n] at h7 h8
    rw [e] at hn
    have hx := (List.nodup_cons.mp hn).1
    have cg : ∀ q, q ∈ tl a ++ tl b → S q = wo (ad1 S j) (j : Int) q := fun q hq => by
      unfold wo ad1
      rw [hno q hq]
      by_cases e : q = j <;> simp [e]
    refine ⟨xa, xb, na, nb, e, h1, by rw [e2 _ _ (by omega)]; exact h2, by rw [e2 _ _ (by omega)]; exact h3, by rw [e2 _ _ (by omega), e2 _ _ (by omega)]; exact h4, by rw [e2 _ _ (by omega)]; exact h5, by rw [e1, hb], ?_, ?_⟩
    · rw [hb]
      refine (h7.cgS (T' := T) (fun q hq => ⟨cg q (List.mem_append_left _ hq), rfl, fun _ => rfl⟩)).cg (fun z hz f _ _ => e2 f z (fun w => ?_))
      exact hx (by rw [← w.2]; exact List.mem_append_left _ hz)
    · rw [hb]
      refine (h8.cgS (T' := T) (fun q hq => ⟨cg q (List.mem_append_right _ hq), rfl, fun _ => rfl⟩)).cg (fun z hz f _ _ => e2 f z (fun w => ?_))
      exact hx (by rw [← w.2]; exact List.mem_append_right _ hz)
