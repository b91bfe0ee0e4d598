/-! the node beside the leaf that is cut, seen from above -/
def KLc (T : Nat → Nat → Int) (σ : Nat → Nat → Int) (K : Nat) (t : TT) (x : Nat) (pre post : List Nat) (pa : Option (Nat × Bool)) (u : TT) : Prop := ∀ (σ' : Nat → Nat → Int) (y' yl Kl : Nat), (∀ z ∈ pre ++ post, SmP pa y' σ σ' z) → yl ∉ pre ++ post → (Kl ∈ sp u ∨ ∃ i ∈ tl u, Kl = keyT T i) → LastAt σ' K Kl u y' yl → LastAt σ' K Kl t (if pa = none then y' else x) yl
theorem KLc.top {T σ : Nat → Nat → Int} {K : Nat} {t : TT} {x : Nat} : KLc T σ K t x [] [] none t := fun _ _ _ _ _ _ _ h => h
section KLS
variable {T σ σ2 : Nat → Nat → Int} {δ : Int} {K x : Nat} {t : TT} {S0 : Nat → Bool} {C : TT → TT} {pre post : List Nat} {pa : Option (Nat × Bool)} {s : Nat} {a b : TT} {y : Nat} {S : Nat → Bool} {nu : List Nat} {na nb : List Nat}
theorem KLc.left (L : KLc T σ K t x pre post pa (.branch s a b)) (F : Foc T σ δ x S0 C pre post pa (.branch s a b) y S nu) (e : nu = y :: (na ++ nb)) (hO : OrdT (keyT T) (.branch s a b)) (hc : K ≤ s) (hl : isL a = false) (e2 : ∀ f z, ¬ (f = 26 ∧ z = y) → σ2 f z = σ f z) : KLc T σ2 K t x (pre ++ [y]) (nb ++ post) (some (y, true)) a := by
  intro σ' y' yl Kl hs hyl hK hL
  obtain ⟨f1, f2, f3, f4, f5, f6, f7⟩ := F
  rw [e] at f2
  obtain ⟨q1, q2, q3⟩ := nd_mid f2
  obtain ⟨o1, o2, o3, o4, _, _⟩ := hO
  have hx : (if pa = none then y else x) = x := by
    split
    · rename_i w; exact f4 w
    · rfl
  have := L σ' y yl Kl (fun z hz => ?_) (fun q => hyl ?_) ?_ ?_
  · rw [hx] at this
    exact this
  · have hzy : z ≠ y := fun w => by
      rcases List.mem_append.mp hz with q | q
      · exact q1 (w ▸ q)
      · exact q3 (w ▸ q)
    refine SmP.tr (σ1 := σ) f3 (fun f h1 h2 => ?_)
    rw [(hs z (by rcases List.mem_append.mp hz with w | w <;> simp [w])).z (fun b q => by cases q; exact hzy rfl) f h1 h2]
    exact e2 f z (fun q => hzy q.2)
  · rcases List.mem_append.mp q with w | w <;> simp [w]
  · rcases hK with w | ⟨i, w, w2⟩
    · exact Or.inl (List.mem_cons_of_mem _ (List.mem_append_left _ w))
    · exact Or.inr ⟨i, List.mem_append_left _ w, w2⟩
  · unfold LastAt
    rw [if_pos hc, if_neg (by rw [hl]; decide)]
    refine ⟨fun w => hyl (by rw [← w]; simp), ?_, y', ?_, hL⟩
    · rcases hK with w | ⟨i, w, w2⟩
      · exact o3 _ w
      · rw [w2]; exact o1 i w
    · rw [hs y (by simp) 21 (by omega) (by omega), if_pos ⟨rfl, rfl⟩]
theorem KLc.right (L : KLc T σ K t x pre post pa (.branch s a b)) (F : Foc T σ δ x S0 C pre post pa (.branch s a b) y S nu) (e : nu = y :: (na ++ nb)) (hO : OrdT (keyT T) (.branch s a b)) (hc : ¬ K ≤ s) (hl : isL b = false) (e2 : ∀ f z, ¬ (f = 26 ∧ z = y) → σ2 f z = σ f z) : KLc T σ2 K t x (pre ++ y :: na) post (some (y, false)) b := by
  intro σ' y' yl Kl hs hyl hK hL
  obtain ⟨f1, f2, f3, f4, f5, f6, f7⟩ := F
  rw [e] at f2
  obtain ⟨q1, q2, q3⟩ := nd_mid f2
  obtain ⟨o1, o2, o3, o4, _, _⟩ := hO
  have hx : (if pa = none then y else x) = x := by
    split
    · rename_i w; exact f4 w
    · rfl
  have := L σ' y yl Kl (fun z hz => ?_) (fun q => hyl ?_) ?_ ?_
  · rw [hx] at this
    exact this
  · have hzy : z ≠ y := fun w => by
      rcases List.mem_append.mp hz with q | q
      · exact q1 (w ▸ q)
      · exact q3 (w ▸ q)
    refine SmP.tr (σ1 := σ) f3 (fun f h1 h2 => ?_)
    rw [(hs z (by rcases List.mem_append.mp hz with w | w <;> simp [w])).z (fun b q => by cases q; exact hzy rfl) f h1 h2]
    exact e2 f z (fun q => hzy q.2)
  · rcases List.mem_append.mp q with w | w <;> simp [w]
  · rcases hK with w | ⟨i, w, w2⟩
    · exact Or.inl (List.mem_cons_of_mem _ (List.mem_append_right _ w))
    · exact Or.inr ⟨i, List.mem_append_right _ w, w2⟩
  · unfold LastAt
    rw [if_neg hc, if_neg (by rw [hl]; decide)]
    refine ⟨fun w => hyl (by rw [← w]; simp), ?_, y', ?_, hL⟩
    · rcases hK with w | ⟨i, w, w2⟩
      · exact o4 _ w
      · rw [w2]; exact o2 i w
    · rw [hs y (by simp) 22 (by omega) (by omega), if_neg (by simp), if_pos ⟨rfl, rfl⟩]
end KLS
/-- a node's own key -/
theorem RC.key {T σ : Nat → Nat → Int} {w : TT} {x : Nat} {S : Nat → Bool} {nw : List Nat} (h : RC T σ w x S nw) (hj : ∀ i ∈ tl w, i < 12 ∧ (0 ≤ T 2 i ∧ T 2 i ≤ 99)) : ∃ Kl : Nat, ((Kl : Int) = 16 * σ 23 x + σ 24 x ∧ (0 ≤ σ 24 x ∧ σ 24 x < 12) ∧ 0 ≤ σ 23 x ∧ σ 23 x ≤ 99) ∧ (Kl ∈ sp w ∨ ∃ i ∈ tl w, Kl = keyT T i) := by
  cases w with
  | leaf q =>
    obtain ⟨_, _, _, _, h4, h5, _, _⟩ := h
    have := hj q (by simp [tl])
    refine ⟨keyT T q, ?_, Or.inr ⟨q, by simp [tl], rfl⟩⟩
    rw [h4, h5]
    unfold keyT
    omega
  | branch s a b =>
    obtain ⟨_, _, _, _, _, _, _, _, h4, _⟩ := h
    exact ⟨s, h4, Or.inl List.mem_cons_self⟩
