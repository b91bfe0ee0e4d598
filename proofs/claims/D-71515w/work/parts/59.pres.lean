/-! the value stays in order (pure) -/
def Srt (κ : Nat → Nat) (L : List Nat) : Prop := L.Pairwise (fun i j => κ i < κ j)
theorem ord_srt {κ : Nat → Nat} : ∀ {t : TT}, OrdT κ t → Srt κ (tl t)
  | .leaf j, _ => List.pairwise_singleton _ _
  | .branch s a b, h => by
    refine List.pairwise_append.mpr ⟨ord_srt h.2.2.2.2.1, ord_srt h.2.2.2.2.2, fun i hi j hj => ?_⟩
    have h1 := h.1 i hi
    have h2 := h.2.1 j hj
    omega
theorem Srt.nd {κ : Nat → Nat} {L : List Nat} (h : Srt κ L) : L.Nodup := List.Pairwise.imp (fun {a b} q e => by rw [e] at q; omega) h
theorem ord_cg {κ κ' : Nat → Nat} : ∀ {t : TT}, OrdT κ t → (∀ j ∈ tl t, κ j = κ' j) → OrdT κ' t
  | .leaf _, _, _ => trivial
  | .branch s a b, h, he => ⟨fun j hj => by rw [← he j (List.mem_append_left _ hj)]; exact h.1 j hj, fun j hj => by rw [← he j (List.mem_append_right _ hj)]; exact h.2.1 j hj, h.2.2.1, h.2.2.2.1, ord_cg h.2.2.2.2.1 (fun j hj => he j (List.mem_append_left _ hj)), ord_cg h.2.2.2.2.2 (fun j hj => he j (List.mem_append_right _ hj))⟩
theorem bld_ord (κ : Nat → Nat) : ∀ (n : Nat) (L : List Nat), L.length = n → 0 < n → Srt κ L → OrdT κ (bld κ L) ∧ ∀ q ∈ sp (bld κ L), ∃ j ∈ L, q = κ j := by
  intro n
  induction n using Nat.strongRecOn with
  | _ n ih =>
    intro L h h0 hs
    by_cases h1 : L.length = 1
    · obtain ⟨j, rfl⟩ := List.length_eq_one_iff.mp h1
      rw [bld_1]
      exact ⟨trivial, fun q hq => by simp [sp] at hq⟩
    · rw [bld_2 κ (by omega)]
      obtain ⟨m, hm⟩ : ∃ m, m = (L.length + 1) / 2 := ⟨_, rfl⟩
      rw [← hm]
      have hsp : Srt κ (L.take m ++ L.drop m) := by rw [List.take_append_drop]; exact hs
      obtain ⟨s1, s2, s3⟩ := List.pairwise_append.mp hsp
      have i1 := ih m (by omega) (L.take m) (by simp; omega) (by omega) s1
      have i2 := ih (L.length - m) (by omega) (L.drop m) (by simp) (by omega) s2
      have t1 : tl (bld κ (L.take m)) = L.take m := tl_bld κ m _ (by simp; omega) (by omega)
      have t2 : tl (bld κ (L.drop m)) = L.drop m := tl_bld κ (L.length - m) _ (by simp) (by omega)
      have hne : L.take m ≠ [] := by
        intro e
        have h5 := congrArg List.length e
        rw [List.length_take, List.length_nil] at h5
        omega
      have hget : L.getD (m - 1) 0 = (L.take m).getLast hne := by
        rw [List.getLast_eq_getElem, List.getD_eq_getElem?_getD, List.getElem?_eq_getElem (by omega)]
        simp
        congr 1
        omega
      obtain ⟨c, hc⟩ : ∃ c, c = L.getD (m - 1) 0 := ⟨_, rfl⟩
      rw [← hc]
      have hcm : c ∈ L.take m := by rw [hc, hget]; exact List.getLast_mem _
      have hle : ∀ j ∈ L.take m, κ j ≤ κ c := by
        intro j hj
        rw [hc, hget]
        obtain ⟨i, hi, rfl⟩ := List.getElem_of_mem hj
        rw [List.getLast_eq_getElem]
        by_cases e : i = (L.take m).length - 1
        · subst e
          exact Nat.le_refl _
        · exact Nat.le_of_lt (List.pairwise_iff_getElem.mp s1 i ((L.take m).length - 1) hi (by omega) (by omega))
      have hgt : ∀ j ∈ L.drop m, κ c < κ j := fun j hj => s3 c hcm j hj
      refine ⟨⟨by rw [t1]; exact hle, by rw [t2]; exact hgt, fun q hq => ?_, fun q hq => ?_, i1.1, i2.1⟩, fun q hq => ?_⟩
      · obtain ⟨j, hj, e⟩ := i1.2 q hq
        rw [e]; exact hle j hj
      · obtain ⟨j, hj, e⟩ := i2.2 q hq
        rw [e]; exact hgt j hj
      · simp only [sp] at hq
        rcases List.mem_cons.mp hq with e | e
        · exact ⟨c, List.mem_of_mem_take hcm, e⟩
        · rcases List.mem_append.mp e with e | e
          · obtain ⟨j, hj, e⟩ := i1.2 q e
            exact ⟨j, List.mem_of_mem_take hj, e⟩
          · obtain ⟨j, hj, e⟩ := i2.2 q e
            exact ⟨j, List.mem_of_mem_drop hj, e⟩
theorem ins_ord {κ : Nat → Nat} {j : Nat} : ∀ {t : TT}, OrdT κ t → (∀ i ∈ tl t, κ i ≠ κ j) → OrdT κ (insT κ j t) ∧ (∀ i, i ∈ tl (insT κ j t) ↔ i = j ∨ i ∈ tl t) ∧ ∀ q ∈ sp (insT κ j t), q ∈ sp t ∨ q = κ j ∨ ∃ i ∈ tl t, q = κ i
  | .leaf q, _, hd => by
    have hd2 := hd q (by simp [tl])
    simp only [insT]
    split
    · refine ⟨⟨by simp [tl], by simp [tl]; omega, by simp [sp], by simp [sp], trivial, trivial⟩, fun i => by simp [tl], fun z hz => ?_⟩
      simp [sp] at hz
      exact Or.inr (Or.inl hz)
    · refine ⟨⟨by simp [tl], by simp [tl]; omega, by simp [sp], by simp [sp], trivial, trivial⟩, fun i => by simp [tl]; exact Or.comm, fun z hz => ?_⟩
      simp [sp] at hz
      exact Or.inr (Or.inr ⟨q, by simp [tl], hz⟩)
  | .branch s a b, h, hd => by
    have ia := ins_ord (κ := κ) (j := j) h.2.2.2.2.1 (fun i hi => hd i (List.mem_append_left _ hi))
    have ib := ins_ord (κ := κ) (j := j) h.2.2.2.2.2 (fun i hi => hd i (List.mem_append_right _ hi))
    simp only [insT]
    split
    · rename_i hk
      refine ⟨⟨fun i hi => ?_, h.2.1, fun q hq => ?_, h.2.2.2.1, ia.1, h.2.2.2.2.2⟩, fun i => ?_, fun q hq => ?_⟩
      · rcases (ia.2.1 i).mp hi with e | e
        · rw [e]; exact hk
        · exact h.1 i e
      · rcases ia.2.2 q hq with e | e | ⟨i, hi, e⟩
        · exact h.2.2.1 q e
        · rw [e]; exact hk
        · rw [e]; exact h.1 i hi
      · simp only [tl, List.mem_append, ia.2.1 i, or_assoc]
      · simp only [sp] at hq ⊢
        rcases List.mem_cons.mp hq with e | e
        · left; rw [e]; simp
        · rcases List.mem_append.mp e with e | e
          · rcases ia.2.2 q e with e | e | ⟨i, hi, e⟩
            · left; simp [e]
            · exact Or.inr (Or.inl e)
            · exact Or.inr (Or.inr ⟨i, List.mem_append_left _ hi, e⟩)
          · left; simp [e]
    · rename_i hk
      refine ⟨⟨h.1, fun i hi => ?_, h.2.2.1, fun q hq => ?_, h.2.2.2.2.1, ib.1⟩, fun i => ?_, fun q hq => ?_⟩
      · rcases (ib.2.1 i).mp hi with e | e
        · rw [e]; omega
        · exact h.2.1 i e
      · rcases ib.2.2 q hq with e | e | ⟨i, hi, e⟩
        · exact h.2.2.2.1 q e
        · rw [e]; omega
        · rw [e]; exact h.2.1 i hi
      · simp only [tl, List.mem_append, ib.2.1 i]
        exact or_left_comm
      · simp only [sp] at hq ⊢
        rcases List.mem_cons.mp hq with e | e
        · left; rw [e]; simp
        · rcases List.mem_append.mp e with e | e
          · left; simp [e]
          · rcases ib.2.2 q e with e | e | ⟨i, hi, e⟩
            · left; simp [e]
            · exact Or.inr (Or.inl e)
            · exact Or.inr (Or.inr ⟨i, List.mem_append_right _ hi, e⟩)
theorem lev_ord {κ : Nat → Nat} {k : Nat} : ∀ {t : TT}, OrdT κ t → OrdT κ (levT κ k t).1 ∧ tl (levT κ k t).1 = tl t ∧ ∀ q ∈ sp (levT κ k t).1, q ∈ sp t ∨ ∃ i ∈ tl t, q = κ i
  | .leaf q, _ => ⟨trivial, rfl, fun _ h => Or.inl h⟩
  | .branch s a b, h => by
    have ia := lev_ord (κ := κ) (k := k) h.2.2.2.2.1
    have ib := lev_ord (κ := κ) (k := k) h.2.2.2.2.2
    have hp := tl_pos a
    simp only [levT]
    split
    · have := bld_ord κ _ (tl a ++ tl b) rfl (by simp; omega) (ord_srt h)
      exact ⟨this.1, tl_bld κ _ _ rfl (by simp; omega), fun q hq => Or.inr (this.2 q hq)⟩
    · split
      · refine ⟨⟨by rw [ia.2.1]; exact h.1, h.2.1, fun q hq => ?_, h.2.2.2.1, ia.1, h.2.2.2.2.2⟩, by simp only [tl]; rw [ia.2.1], fun q hq => ?_⟩
        · rcases ia.2.2 q hq with e | ⟨i, hi, e⟩
          · exact h.2.2.1 q e
          · rw [e]; exact h.1 i hi
        · simp only [sp] at hq ⊢
          rcases List.mem_cons.mp hq with e | e
          · left; rw [e]; simp
          · rcases List.mem_append.mp e with e | e
            · rcases ia.2.2 q e with e | ⟨i, hi, e⟩
              · left; simp [e]
              · exact Or.inr ⟨i, List.mem_append_left _ hi, e⟩
            · left; simp [e]
      · refine ⟨⟨h.1, by rw [ib.2.1]; exact h.2.1, h.2.2.1, fun q hq => ?_, h.2.2.2.2.1, ib.1⟩, by simp only [tl]; rw [ib.2.1], fun q hq => ?_⟩
        · rcases ib.2.2 q hq with e | ⟨i, hi, e⟩
          · exact h.2.2.2.1 q e
          · rw [e]; exact h.2.1 i hi
        · simp only [sp] at hq ⊢
          rcases List.mem_cons.mp hq with e | e
          · left; rw [e]; simp
          · rcases List.mem_append.mp e with e | e
            · left; simp [e]
            · rcases ib.2.2 q e with e | ⟨i, hi, e⟩
              · left; simp [e]
              · exact Or.inr ⟨i, List.mem_append_right _ hi, e⟩
theorem del_ord {κ : Nat → Nat} {j : Nat} : ∀ {t : TT}, OrdT κ t → isL t = false → j ∈ tl t → (∀ i ∈ tl t, κ i = κ j → i = j) → OrdT κ (delT (κ j) t) ∧ (∀ i, i ∈ tl (delT (κ j) t) ↔ i ∈ tl t ∧ i ≠ j) ∧ ∀ q ∈ sp (delT (κ j) t), q ∈ sp t
  | .leaf q, _, h, _, _ => by simp [isL] at h
  | .branch s a b, h, _, hj, hu => by
    have hua : ∀ i ∈ tl a, κ i = κ j → i = j := fun i hi => hu i (List.mem_append_left _ hi)
    have hub : ∀ i ∈ tl b, κ i = κ j → i = j := fun i hi => hu i (List.mem_append_right _ hi)
    simp only [delT]
    by_cases hk : κ j ≤ s
    · have hja : j ∈ tl a := by
        rcases List.mem_append.mp hj with e | e
        · exact e
        · have := h.2.1 j e; omega
      have hjb : ∀ i ∈ tl b, i ≠ j := fun i hi e => by have := h.2.1 i hi; rw [e] at this; omega
      rw [if_pos hk]
      cases ha : isL a with
      | true =>
        rw [if_pos rfl]
        refine ⟨h.2.2.2.2.2, fun i => ⟨fun hi => ⟨List.mem_append_right _ hi, hjb i hi⟩, fun hi => ?_⟩, fun q hq => by simp [sp, hq]⟩
        rcases List.mem_append.mp hi.1 with e | e
        · cases a with
          | leaf z =>
            simp [tl] at e hja
            exact absurd (e.trans hja.symm) hi.2
          | branch _ _ _ => simp [isL] at ha
        · exact e
      | false =>
        rw [if_neg (by simp)]
        have ia := del_ord (κ := κ) (j := j) h.2.2.2.2.1 ha hja hua
        refine ⟨⟨fun i hi => h.1 i ((ia.2.1 i).mp hi).1, h.2.1, fun q hq => h.2.2.1 q (ia.2.2 q hq), h.2.2.2.1, ia.1, h.2.2.2.2.2⟩, fun i => ?_, fun q hq => ?_⟩
        · simp only [tl, List.mem_append, ia.2.1 i]
          constructor
          · rintro (e | e)
            · exact ⟨Or.inl e.1, e.2⟩
            · exact ⟨Or.inr e, hjb i e⟩
          · rintro ⟨e | e, e2⟩
            · exact Or.inl ⟨e, e2⟩
            · exact Or.inr e
        · simp only [sp] at hq ⊢
          rcases List.mem_cons.mp hq with e | e
          · rw [e]; simp
          · rcases List.mem_append.mp e with e | e
            · simp [ia.2.2 q e]
            · simp [e]
    · have hjb : j ∈ tl b := by
        rcases List.mem_append.mp hj with e | e
        · have := h.1 j e; omega
        · exact e
      have hja : ∀ i ∈ tl a, i ≠ j := fun i hi e => by have := h.1 i hi; rw [e] at this; omega
      rw [if_neg hk]
      cases hb : isL b with
      | true =>
        rw [if_pos rfl]
        refine ⟨h.2.2.2.2.1, fun i => ⟨fun hi => ⟨List.mem_append_left _ hi, hja i hi⟩, fun hi => ?_⟩, fun q hq => by simp [sp, hq]⟩
        rcases List.mem_append.mp hi.1 with e | e
        · exact e
        · cases b with
          | leaf z =>
            simp [tl] at e hjb
            exact absurd (e.trans hjb.symm) hi.2
          | branch _ _ _ => simp [isL] at hb
      | false =>
        rw [if_neg (by simp)]
        have ib := del_ord (κ := κ) (j := j) h.2.2.2.2.2 hb hjb hub
        refine ⟨⟨h.1, fun i hi => h.2.1 i ((ib.2.1 i).mp hi).1, h.2.2.1, fun q hq => h.2.2.2.1 q (ib.2.2 q hq), h.2.2.2.2.1, ib.1⟩, fun i => ?_, fun q hq => ?_⟩
        · simp only [tl, List.mem_append, ib.2.1 i]
          constructor
          · rintro (e | e)
            · exact ⟨Or.inl e, hja i e⟩
            · exact ⟨Or.inr e.1, e.2⟩
          · rintro ⟨e | e, e2⟩
            · exact Or.inl e
            · exact Or.inr ⟨e, e2⟩
        · simp only [sp] at hq ⊢
          rcases List.mem_cons.mp hq with e | e
          · rw [e]; simp
          · rcases List.mem_append.mp e with e | e
            · simp [e]
            · simp [ib.2.2 q e]
theorem cut_ord {κ : Nat → Nat} {j : Nat} : ∀ {t : TT}, OrdT κ t → isL t = false → j ∈ tl t → (∀ i ∈ tl t, κ i = κ j → i = j) → OrdT κ (cutT κ (κ j) t).1 ∧ tl (cutT κ (κ j) t).1 = tl (delT (κ j) t) ∧ ∀ q ∈ sp (cutT κ (κ j) t).1, q ∈ sp t ∨ ∃ i ∈ tl t, q = κ i
  | .leaf q, _, h, _, _ => by simp [isL] at h
  | .branch s a b, h, h0, hj, hu => by
    have hD := del_ord (κ := κ) (j := j) h h0 hj hu
    have hua : ∀ i ∈ tl a, κ i = κ j → i = j := fun i hi => hu i (List.mem_append_left _ hi)
    have hub : ∀ i ∈ tl b, κ i = κ j → i = j := fun i hi => hu i (List.mem_append_right _ hi)
    simp only [delT] at hD
    simp only [cutT, delT]
    by_cases hk : κ j ≤ s
    · have hja : j ∈ tl a := by
        rcases List.mem_append.mp hj with e | e
        · exact e
        · have := h.2.1 j e; omega
      rw [if_pos hk] at hD
      rw [if_pos hk, if_pos hk]
      cases ha : isL a with
      | true => exact ⟨by simpa using h.2.2.2.2.2, by simp, fun q hq => by simp at hq; left; simp [sp, hq]⟩
      | false =>
        rw [ha, if_neg (by simp)] at hD
        rw [if_neg (show ¬ (false = true) by decide), if_neg (show ¬ (false = true) by decide)]
        have ia := cut_ord (κ := κ) (j := j) h.2.2.2.2.1 ha hja hua
        have da := del_ord (κ := κ) (j := j) h.2.2.2.2.1 ha hja hua
        have hp := tl_pos b
        split
        · have := bld_ord κ _ (tl (delT (κ j) a) ++ tl b) rfl (by simp; omega) (ord_srt hD.1)
          refine ⟨this.1, tl_bld κ _ _ rfl (by simp; omega), fun q hq => ?_⟩
          obtain ⟨i, hi, e⟩ := this.2 q hq
          refine Or.inr ⟨i, ?_, e⟩
          rcases List.mem_append.mp hi with e | e
          · exact List.mem_append_left _ ((da.2.1 i).mp e).1
          · exact List.mem_append_right _ e
        · refine ⟨⟨by rw [ia.2.1]; exact hD.1.1, h.2.1, fun q hq => ?_, h.2.2.2.1, ia.1, h.2.2.2.2.2⟩, by simp only [tl]; rw [ia.2.1], fun q hq => ?_⟩
          · rcases ia.2.2 q hq with e | ⟨i, hi, e⟩
            · exact h.2.2.1 q e
            · rw [e]; exact h.1 i hi
          · simp only [sp] at hq ⊢
            rcases List.mem_cons.mp hq with e | e
            · left; rw [e]; simp
            · rcases List.mem_append.mp e with e | e
              · rcases ia.2.2 q e with e | ⟨i, hi, e⟩
                · left; simp [e]
                · exact Or.inr ⟨i, List.mem_append_left _ hi, e⟩
              · left; simp [e]
    · have hjb : j ∈ tl b := by
        rcases List.mem_append.mp hj with e | e
        · have := h.1 j e; omega
        · exact e
      rw [if_neg hk] at hD
      rw [if_neg hk, if_neg hk]
      cases hb : isL b with
      | true => exact ⟨by simpa using h.2.2.2.2.1, by simp, fun q hq => by simp at hq; left; simp [sp, hq]⟩
      | false =>
        rw [hb, if_neg (by simp)] at hD
        rw [if_neg (show ¬ (false = true) by decide), if_neg (show ¬ (false = true) by decide)]
        have ib := cut_ord (κ := κ) (j := j) h.2.2.2.2.2 hb hjb hub
        have db := del_ord (κ := κ) (j := j) h.2.2.2.2.2 hb hjb hub
        have hp := tl_pos a
        split
        · have := bld_ord κ _ (tl a ++ tl (delT (κ j) b)) rfl (by simp; omega) (ord_srt hD.1)
          refine ⟨this.1, tl_bld κ _ _ rfl (by simp; omega), fun q hq => ?_⟩
          obtain ⟨i, hi, e⟩ := this.2 q hq
          refine Or.inr ⟨i, ?_, e⟩
          rcases List.mem_append.mp hi with e | e
          · exact List.mem_append_left _ e
          · exact List.mem_append_right _ ((db.2.1 i).mp e).1
        · refine ⟨⟨h.1, by rw [ib.2.1]; exact hD.1.2.1, h.2.2.1, fun q hq => ?_, h.2.2.2.2.1, ib.1⟩, by simp only [tl]; rw [ib.2.1], fun q hq => ?_⟩
          · rcases ib.2.2 q hq with e | ⟨i, hi, e⟩
            · exact h.2.2.2.1 q e
            · rw [e]; exact h.2.1 i hi
          · simp only [sp] at hq ⊢
            rcases List.mem_cons.mp hq with e | e
            · left; rw [e]; simp
            · rcases List.mem_append.mp e with e | e
              · left; simp [e]
              · rcases ib.2.2 q e with e | ⟨i, hi, e⟩
                · left; simp [e]
                · exact Or.inr ⟨i, List.mem_append_right _ hi, e⟩
