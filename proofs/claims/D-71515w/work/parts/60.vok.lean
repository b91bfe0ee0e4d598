/-! the value stays good -/
theorem cnt_flt (b : Nat) : ∀ n, cnt b n = ((List.range n).filter (fun i => b.testBit i)).length
  | 0 => rfl
  | n + 1 => by
    rw [List.range_succ, List.filter_append, List.length_append, ← cnt_flt b n]
    show cnt b n + (b.testBit n).toNat = _
    cases e : b.testBit n <;> simp [e]
theorem nd_same {L M : List Nat} (hL : L.Nodup) (hM : M.Nodup) (h : ∀ i, i ∈ L ↔ i ∈ M) : L.length = M.length := by
  refine List.Perm.length_eq ?_
  rw [List.perm_iff_count]
  intro i
  by_cases e : i ∈ L
  · have h1 := List.nodup_iff_count.mp hL i
    have h2 := List.nodup_iff_count.mp hM i
    have h3 := List.count_pos_iff.mpr e
    have h4 := List.count_pos_iff.mpr ((h i).mp e)
    omega
  · rw [List.count_eq_zero.mpr e, List.count_eq_zero.mpr (fun q => e ((h i).mpr q))]
theorem TOk.cnt {b : Nat} {t : TT} (h : TOk b t) (hb : b < 4096) : cnt b 12 = (tl t).length := by
  rw [cnt_flt]
  refine nd_same (List.Nodup.sublist (List.filter_sublist) List.nodup_range) h.2 (fun i => ?_)
  rw [List.mem_filter, h.1 i]
  exact ⟨fun q => q.2, fun q => ⟨by simpa using tb12 hb q, q⟩⟩
theorem key_inj {T : Nat → Nat → Int} {i j : Nat} (hi : i < 12) (hj : j < 12) (h1 : 0 ≤ T 2 i) (h2 : 0 ≤ T 2 j) (h : keyT T i = keyT T j) : i = j := by
  unfold keyT at h
  omega
theorem VOk.two {v : VV} (h : VOk v) (h1 : cnt v.1 12 ≠ 1) : 2 ≤ (tl v.2.2).length := by
  have := h.2.1.cnt h.1.1
  have := tl_pos v.2.2
  omega
theorem VOk.add {v : VV} (h : VOk v) {k s d l : Int} (ht : told k s d l) (hc : cnt v.1 12 ≠ 12) : VOk (addV v k s d l) := by
  obtain ⟨f1, f2, f3⟩ := fj_spec hc
  obtain ⟨j, hj⟩ : ∃ j, j = fj v.1 := ⟨_, rfl⟩
  unfold addV
  rw [← hj] at f1 f2 f3 ⊢
  obtain ⟨T', hT'⟩ : ∃ T', T' = upT v.2.1 j k s d l := ⟨_, rfl⟩
  rw [← hT']
  have hn : ∀ i, v.1.testBit i = true → i ≠ j := fun i hi e => by rw [e, f2] at hi; cases hi
  have ho : ∀ f i, i ≠ j → T' f i = v.2.1 f i := fun f i hi => by rw [hT']; unfold upT; rw [if_neg hi]
  have h1 : T' 1 j = k ∧ T' 2 j = s ∧ T' 3 j = d ∧ T' 4 j = l := by rw [hT']; unfold upT; simp
  have hJ : JOk (v.1 ||| 2 ^ j) T' := by
    refine ⟨or_lt h.1.1 f1, fun i hi => ?_⟩
    by_cases e : i = j
    · rw [e, h1.1, h1.2.1, h1.2.2.1, h1.2.2.2]; exact ht
    · rw [or_bit] at hi
      have : v.1.testBit i = true := by simpa [Ne.symm e] using hi
      rw [ho 1 i e, ho 2 i e, ho 3 i e, ho 4 i e]
      exact h.1.2 i this
  have hO : OrdT (keyT T') v.2.2 := ord_cg h.2.2 (fun i hi => by unfold keyT; rw [ho 2 i (hn i ((h.2.1.1 i).mp hi))])
  have hI := ins_ord (κ := keyT T') (j := j) hO (fun i hi e => by
    have hb := (h.2.1.1 i).mp hi
    refine hn i hb (key_inj (tb12 h.1.1 hb) f1 ?_ ?_ e)
    · rw [ho 2 i (hn i hb)]; exact (h.1.2 i hb).2.1.1
    · rw [h1.2.1]; exact ht.2.1.1)
  have hL := lev_ord (κ := keyT T') (k := keyT T' j) hI.1
  refine ⟨hJ, ⟨fun i => ?_, ?_⟩, hL.1⟩
  · show i ∈ tl (levT _ _ _).1 ↔ _
    rw [hL.2.1, hI.2.1 i, h.2.1.1 i, or_bit]
    simp
    constructor
    · rintro (e | e)
      · exact Or.inr e.symm
      · exact Or.inl e
    · rintro (e | e)
      · exact Or.inr e
      · exact Or.inl e.symm
  · exact (ord_srt hL.1).nd
theorem VOk.cut {v : VV} (h : VOk v) {j : Nat} (hj : v.1.testBit j = true) (h2 : 2 ≤ (tl v.2.2).length) : VOk (cutV v j) := by
  have hi : isL v.2.2 = false := by
    cases e : v.2.2 with
    | leaf q => rw [e] at h2; simp [tl] at h2
    | branch _ _ _ => rfl
  have hu : ∀ i ∈ tl v.2.2, keyT v.2.1 i = keyT v.2.1 j → i = j := fun i hi e => by
    have hb := (h.2.1.1 i).mp hi
    exact key_inj (tb12 h.1.1 hb) (tb12 h.1.1 hj) (h.1.2 i hb).2.1.1 (h.1.2 j hj).2.1.1 e
  have hD := del_ord (κ := keyT v.2.1) (j := j) h.2.2 hi ((h.2.1.1 j).mpr hj) hu
  have hC := cut_ord (κ := keyT v.2.1) (j := j) h.2.2 hi ((h.2.1.1 j).mpr hj) hu
  refine ⟨⟨xor_lt h.1.1, fun i hi => h.1.2 i ?_⟩, ⟨fun i => ?_, ?_⟩, hC.1⟩
  · have hi : (v.1 ^^^ (v.1 &&& 2 ^ j)).testBit i = true := hi
    rw [xor_bit] at hi
    simp at hi
    exact hi.1
  · show i ∈ tl (cutT _ _ _).1 ↔ (v.1 ^^^ (v.1 &&& 2 ^ j)).testBit i = true
    rw [hC.2.1, hD.2.1 i, h.2.1.1 i, xor_bit]
    simp
    exact fun _ => ⟨fun a e => a e.symm, fun a e => a e.symm⟩
  · exact (ord_srt hC.1).nd
theorem VOk.delay {v : VV} (h : VOk v) {j : Nat} {d : Int} (hd : 0 ≤ d ∧ d ≤ 99) : VOk (v.1, upD v.2.1 j d, v.2.2) := by
  have ho : ∀ f i, f ≠ 3 → upD v.2.1 j d f i = v.2.1 f i := fun f i hf => by unfold upD; rw [if_neg (fun q => hf q.1)]
  refine ⟨⟨h.1.1, fun i hi => ?_⟩, h.2.1, ord_cg h.2.2 (fun i _ => by unfold keyT; dsimp only; rw [ho 2 i (by decide)])⟩
  have hi : v.1.testBit i = true := hi
  have h1 := h.1.2 i hi
  show (0 ≤ upD v.2.1 j d 1 i ∧ upD v.2.1 j d 1 i ≤ 3) ∧ (0 ≤ upD v.2.1 j d 2 i ∧ upD v.2.1 j d 2 i ≤ 99) ∧ (0 ≤ upD v.2.1 j d 3 i ∧ upD v.2.1 j d 3 i ≤ 99) ∧ (1 ≤ upD v.2.1 j d 4 i ∧ upD v.2.1 j d 4 i ≤ 9)
  rw [ho 1 i (by decide), ho 2 i (by decide), ho 4 i (by decide)]
  refine ⟨h1.1, h1.2.1, ?_, h1.2.2.2⟩
  unfold upD
  split
  · exact hd
  · exact h1.2.2.1
theorem VOk.level {v : VV} (h : VOk v) : VOk (v.1, v.2.1, bld (keyT v.2.1) (tl v.2.2)) := by
  have hp := tl_pos v.2.2
  have hB := bld_ord (keyT v.2.1) _ (tl v.2.2) rfl hp (ord_srt h.2.2)
  have ht := tl_bld (keyT v.2.1) _ (tl v.2.2) rfl hp
  refine ⟨h.1, ⟨fun i => ?_, ?_⟩, hB.1⟩
  · show i ∈ tl (bld _ _) ↔ _
    rw [ht]; exact h.2.1.1 i
  · show (tl (bld _ _)).Nodup
    rw [ht]; exact h.2.1.2
