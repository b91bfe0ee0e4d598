/-! what push, pull, vacate do, plainly -/
theorem push_wl {R : Nat → Int} {S : Nat → Bool} {L : List Nat} {i j w l : Nat} (hi : bst R S L = (i : Int)) (hj : j ∈ L) (hs : S j = false) (hwl : (ahd R j i ∧ w = j ∧ l = i) ∨ (¬ ahd R j i ∧ w = i ∧ l = j)) : bst R (ad1 S j) L = (w : Int) ∧ wo (ad1 S j) (w : Int) = ad1 (wo S (i : Int)) l ∧ l ∈ L ∧ wo S (i : Int) l = false := by
  obtain ⟨i', e, h1, h2⟩ := bst_nat (R := R) (S := S) (L := L) (by omega)
  have e' : i' = i := by omega
  subst e'
  have hw := wo_ad h2 hs
  have hb := bst_ad hi hj hs
  rcases hwl with ⟨q1, q2, q3⟩ | ⟨q1, q2, q3⟩
  · subst q2; subst q3
    exact ⟨hb.1 q1, hw.1, h1, by unfold wo; simp⟩
  · subst q2; subst q3
    exact ⟨hb.2 q1, hw.2, hj, by unfold wo; simp [hs]⟩
theorem ad_oth {S : Nat → Bool} {j q : Nat} (h : q ≠ j) : ad1 S j q = S q := by unfold ad1; simp [h]
theorem wo_oth {S : Nat → Bool} {j : Nat} {v : Int} (h : (j : Int) ≠ v) : wo S v j = S j := by unfold wo; simp [h]
theorem nd_app {L M : List Nat} (h : (L ++ M).Nodup) {j : Nat} (hj : j ∈ L) : j ∉ M := fun q => (List.nodup_append.mp h).2.2 j hj j q rfl
/-- a node holds nothing, its parts hold what S tells -/
def PC (T : Nat → Nat → Int) (σ : Nat → Nat → Int) : TT → Nat → (Nat → Bool) → List Nat → Prop
  | .leaf j, x, S, ns => ns = [x] ∧ x < 23 ∧ σ 21 x = -1 ∧ σ 22 x = -1 ∧ σ 23 x = T 2 j ∧ σ 24 x = (j : Int) ∧ σ 26 x = 1 ∧ σ 25 x = -4 ∧ S j = false
  | .branch κ a b, x, S, ns => ∃ (xa xb : Nat) (na nb : List Nat), ns = x :: (na ++ nb) ∧ x < 23 ∧ σ 21 x = (xa : Int) ∧ σ 22 x = (xb : Int) ∧ ((κ : Int) = 16 * σ 23 x + σ 24 x ∧ (0 ≤ σ 24 x ∧ σ 24 x < 12) ∧ 0 ≤ σ 23 x ∧ σ 23 x ≤ 99) ∧ σ 26 x = ((tl a).length + (tl b).length : Int) ∧ σ 25 x = -4 ∧ RC T σ a xa S na ∧ RC T σ b xb S nb
theorem RC.vac {T σ σ' : Nat → Nat → Int} {t : TT} {x : Nat} {S : Nat → Bool} {ns : List Nat} (h : RC T σ t x S ns) (hn : ns.Nodup) (e1 : σ' 25 x = -4) (e2 : ∀ f z, ¬ (f = 25 ∧ z = x) → σ' f z = σ f z) : PC T σ' t x (wo S (bst (rkT T) S (tl t))) ns := by
  cases t with
  | leaf i =>
    obtain ⟨e, h1, h2, h3, h4, h5, h6, h7⟩ := h
    refine ⟨e, h1, by rw [e2 _ _ (by omega)]; exact h2, by rw [e2 _ _ (by omega)]; exact h3, by rw [e2 _ _ (by omega)]; exact h4, by rw [e2 _ _ (by omega)]; exact h5, by rw [e2 _ _ (by omega)]; exact h6, e1, ?_⟩
    by_cases hb : bst (rkT T) S [i] = -4
    · have := bst_none hb i (by simp)
      unfold wo
      simp [this]
    · obtain ⟨q, hq, hq2, hq3⟩ := bst_nat hb
      simp at hq2
      subst hq2
      show wo S (bst (rkT T) S [q]) q = false
      rw [hq]
      unfold wo
      simp
  | branch κ a b =>
    obtain ⟨xa, xb, na, nb, e, h1, h2, h3, h4, h5, h6, h7, h8⟩ := h
    rw [e] at hn
    have hx := (List.nodup_cons.mp hn).1
    refine ⟨xa, xb, na, nb, e, h1, by rw [e2 _ _ (by omega)]; exact h2, by rw [e2 _ _ (by omega)]; exact h3, by rw [e2 _ _ (by omega), e2 _ _ (by omega)]; exact h4, by rw [e2 _ _ (by omega)]; exact h5, e1, h7.cg (fun z hz f _ _ => e2 f z (fun w => ?_)), h8.cg (fun z hz f _ _ => e2 f z (fun w => ?_))⟩
    · exact hx (by rw [← w.2]; exact List.mem_append_left _ hz)
    · exact hx (by rw [← w.2]; exact List.mem_append_right _ hz)
/-- of two parts the best -/
theorem bst_two {R : Nat → Int} {S : Nat → Bool} {A B : List Nat} {u v : Int} (hu : bst R S A = u) (hv : bst R S B = v) (hd : ∀ j ∈ A, j ∉ B) : (u = -4 → bst R S (A ++ B) = v) ∧ (v = -4 → bst R S (A ++ B) = u) ∧ (u ≠ -4 → v ≠ -4 → (ahd R u.toNat v.toNat → bst R S (A ++ B) = u) ∧ (¬ ahd R u.toNat v.toNat → bst R S (A ++ B) = v)) := by
  refine ⟨fun h => ?_, fun h => ?_, fun h1 h2 => ?_⟩
  · rw [← hv]
    have hn := bst_none (hu.trans h)
    refine bst_m (fun j => ?_) (fun _ _ _ => rfl)
    simp
    intro hs
    exact fun q => by rw [hn j q] at hs; cases hs
  · rw [← hu]
    have hn := bst_none (hv.trans h)
    refine bst_m (fun j => ?_) (fun _ _ _ => rfl)
    simp
    intro hs
    exact fun q => by rw [hn j q] at hs; cases hs
  · rcases hu ▸ bst_spec R S A with ⟨e, _⟩ | ⟨i, e, a1, a2⟩
    · exact absurd e h1
    rcases hv ▸ bst_spec R S B with ⟨e', _⟩ | ⟨j, e', b1, b2⟩
    · exact absurd e' h2
    have e1 : u.toNat = i := by omega
    have e2 : v.toNat = j := by omega
    have hne : i ≠ j := fun q => hd i a1.1 (by rw [q]; exact b1.1)
    rw [e1, e2]
    constructor
    · intro ha
      refine (bst_spec R S (A ++ B)).uq (Or.inr ⟨i, e, ⟨List.mem_append_left _ a1.1, a1.2⟩, fun q hq hn => ?_⟩)
      rcases List.mem_append.mp hq.1 with w | w
      · exact a2 q ⟨w, hq.2⟩ hn
      · by_cases e3 : q = j
        · rw [e3]; exact ha
        · have := b2 q ⟨w, hq.2⟩ e3
          unfold ahd at ha this ⊢
          omega
    · intro ha
      refine (bst_spec R S (A ++ B)).uq (Or.inr ⟨j, e', ⟨List.mem_append_right _ b1.1, b1.2⟩, fun q hq hn => ?_⟩)
      rcases List.mem_append.mp hq.1 with w | w
      · by_cases e3 : q = i
        · rw [e3]
          unfold ahd at ha ⊢
          omega
        · have := a2 q ⟨w, hq.2⟩ e3
          unfold ahd at ha this ⊢
          omega
      · exact b2 q ⟨w, hq.2⟩ hn
theorem RC.woS {T σ : Nat → Nat → Int} {t : TT} {x : Nat} {S : Nat → Bool} {ns : List Nat} {v : Int} (h : RC T σ t x S ns) (hv : ∀ j ∈ tl t, (j : Int) ≠ v) : RC T σ t x (wo S v) ns := h.cgS (fun j hj => ⟨(wo_oth (hv j hj)).symm, rfl, fun _ => rfl⟩)
/-- the best stays the best when another one is left out -/
theorem bst_wo {R : Nat → Int} {S : Nat → Bool} {L : List Nat} {j : Nat} (h : bst R S L ≠ (j : Int)) : bst R (wo S (j : Int)) L = bst R S L := by
  rcases bst_spec R S L with ⟨e, q⟩ | ⟨i, e, h1, h2⟩
  · exact (bst_spec R _ L).uq (Or.inl ⟨e, fun i qi => q i ⟨qi.1, wo_le qi.2⟩⟩)
  · refine (bst_spec R _ L).uq (Or.inr ⟨i, e, ⟨h1.1, ?_⟩, fun q hq hn => h2 q ⟨hq.1, wo_le hq.2⟩ hn⟩)
    rw [wo_oth (fun q => h (e.trans q))]
    exact h1.2
theorem wo_wo (S : Nat → Bool) (u v : Int) : wo (wo S u) v = wo (wo S v) u := by
  funext q
  unfold wo
  cases S q <;> simp [Bool.and_comm]
/-- the tree from x on, seen from a node y in it where j is held or below -/
def KV (T σ : Nat → Nat → Int) (j : Nat) (t : TT) (x : Nat) (S : Nat → Bool) (ns : List Nat) (u : TT) (y : Nat) (S' : Nat → Bool) (nu : List Nat) : Prop := ∀ σ', (∀ z ∈ ns, z ∉ nu → SmN σ σ' z) → RC T σ' u y (wo S' (j : Int)) nu → RC T σ' t x (wo S (j : Int)) ns
theorem KV.top {T σ : Nat → Nat → Int} {j : Nat} {t : TT} {x : Nat} {S : Nat → Bool} {ns : List Nat} : KV T σ j t x S ns t x S ns := fun _ _ h => h
theorem KV.dn {T σ : Nat → Nat → Int} {j : Nat} {t : TT} {x : Nat} {S : Nat → Bool} {ns : List Nat} {κ : Nat} {a b : TT} {y : Nat} {S' : Nat → Bool} {nu : List Nat} {xa xb : Nat} {na nb : List Nat} (K : KV T σ j t x S ns (.branch κ a b) y S' nu)
    (e : nu = y :: (na ++ nb)) (hn : nu.Nodup) (hsub : ∀ z ∈ nu, z ∈ ns) (h1 : y < 23) (h2 : σ 21 y = (xa : Int)) (h3 : σ 22 y = (xb : Int)) (h4 : (κ : Int) = 16 * σ 23 y + σ 24 y ∧ (0 ≤ σ 24 y ∧ σ 24 y < 12) ∧ 0 ≤ σ 23 y ∧ σ 23 y ≤ 99) (h5 : σ 26 y = ((tl a).length + (tl b).length : Int)) (h6 : σ 25 y = bst (rkT T) S' (tl a ++ tl b)) (h7 : RC T σ a xa (wo S' (bst (rkT T) S' (tl a ++ tl b))) na) (h8 : RC T σ b xb (wo S' (bst (rkT T) S' (tl a ++ tl b))) nb) (hne : σ 25 y ≠ (j : Int)) :
    ((∀ q ∈ tl b, q ≠ j) → KV T σ j t x S ns a xa (wo S' (bst (rkT T) S' (tl a ++ tl b))) na) ∧ ((∀ q ∈ tl a, q ≠ j) → KV T σ j t x S ns b xb (wo S' (bst (rkT T) S' (tl a ++ tl b))) nb) := by
  rw [h6] at hne
  have hb := bst_wo hne
  rw [e] at hn
  have hn1 := List.nodup_cons.mp hn
  constructor
  · intro hq σ' hs hr
    refine K σ' (fun z hz hz2 => hs z hz (fun w => hz2 (by rw [e]; exact List.mem_cons_of_mem _ (List.mem_append_left _ w)))) ?_
    have hy := hs y (hsub y (by rw [e]; exact List.mem_cons_self)) (fun w => hn1.1 (List.mem_append_left _ w))
    refine ⟨xa, xb, na, nb, e, h1, by rw [hy 21 (by omega) (by omega)]; exact h2, by rw [hy 22 (by omega) (by omega)]; exact h3, by rw [hy 23 (by omega) (by omega), hy 24 (by omega) (by omega)]; exact h4, by rw [hy 26 (by omega) (by omega)]; exact h5, by rw [hy 25 (by omega) (by omega), hb]; exact h6, by rw [hb, wo_wo]; exact hr, ?_⟩
    rw [hb, wo_wo]
    refine (h8.woS (fun q w => by have := hq q w; omega)).cg (fun z hz => hs z (hsub z (by rw [e]; exact List.mem_cons_of_mem _ (List.mem_append_right _ hz))) (fun w => nd_app hn1.2 w hz))
  · intro hq σ' hs hr
    refine K σ' (fun z hz hz2 => hs z hz (fun w => hz2 (by rw [e]; exact List.mem_cons_of_mem _ (List.mem_append_right _ w)))) ?_
    have hy := hs y (hsub y (by rw [e]; exact List.mem_cons_self)) (fun w => hn1.1 (List.mem_append_right _ w))
    refine ⟨xa, xb, na, nb, e, h1, by rw [hy 21 (by omega) (by omega)]; exact h2, by rw [hy 22 (by omega) (by omega)]; exact h3, by rw [hy 23 (by omega) (by omega), hy 24 (by omega) (by omega)]; exact h4, by rw [hy 26 (by omega) (by omega)]; exact h5, by rw [hy 25 (by omega) (by omega), hb]; exact h6, ?_, by rw [hb, wo_wo]; exact hr⟩
    rw [hb, wo_wo]
    refine (h7.woS (fun q w => by have := hq q w; omega)).cg (fun z hz => hs z (hsub z (by rw [e]; exact List.mem_cons_of_mem _ (List.mem_append_left _ hz))) (fun w => nd_app hn1.2 hz w))
