/-! a State: jobs, nodes taken, what is left as it was -/
def JC (T σ : Nat → Nat → Int) (j : Nat) : Prop := j < 12 ∧ (σ 4 j = T 1 j ∧ σ 5 j = T 2 j ∧ σ 6 j = T 3 j ∧ σ 7 j = T 4 j) ∧ (0 ≤ T 1 j ∧ T 1 j ≤ 3) ∧ (0 ≤ T 2 j ∧ T 2 j ≤ 99) ∧ (0 ≤ T 3 j ∧ T 3 j ≤ 99) ∧ (1 ≤ T 4 j ∧ T 4 j ≤ 9)
def OffS (k : Nat) (P : Nat → Nat → Prop) (γ g : GG) : Prop := ∀ o f i, ¬ (o = 2 + k ∧ P f i) → g o f i = γ o f i
theorem OffS.rf {k : Nat} {P : Nat → Nat → Prop} {γ : GG} : OffS k P γ γ := fun _ _ _ _ => rfl
theorem OffS.tr {k : Nat} {P : Nat → Nat → Prop} {a b c : GG} (h1 : OffS k P a b) (h2 : OffS k P b c) : OffS k P a c := fun o f i h => (h2 o f i h).trans (h1 o f i h)
theorem OffS.mono {k : Nat} {P Q : Nat → Nat → Prop} {a b : GG} (h : OffS k P a b) (hs : ∀ f i, P f i → Q f i) : OffS k Q a b := fun o f i q => h o f i (fun z => q ⟨z.1, hs f i z.2⟩)
theorem OffS.up {k : Nat} {P : Nat → Nat → Prop} {γ g : GG} (h : OffS k P γ g) {f i : Nat} {z : Int} (hf : P f i) : OffS k P γ (gu g (2 + k) f i z) := fun o q r hq => by
  rw [gu_n (fun e => hq ⟨e.1, by rw [e.2.1, e.2.2]; exact hf⟩)]
  exact h o q r hq
theorem OffS.s {k : Nat} {P : Nat → Nat → Prop} {γ g : GG} (h : OffS k P γ g) {f i : Nat} (hf : ¬ P f i) : g (2 + k) f i = γ (2 + k) f i := h (2 + k) f i (fun q => hf q.2)
theorem JC.cg {T σ σ' : Nat → Nat → Int} {j : Nat} (h : JC T σ j) (e : ∀ f, 4 ≤ f → f ≤ 7 → σ' f j = σ f j) : JC T σ' j := by
  obtain ⟨h1, ⟨a, b, c, d⟩, h2⟩ := h
  exact ⟨h1, ⟨by rw [e 4 (by omega) (by omega)]; exact a, by rw [e 5 (by omega) (by omega)]; exact b, by rw [e 6 (by omega) (by omega)]; exact c, by rw [e 7 (by omega) (by omega)]; exact d⟩, h2⟩
theorem JC.off {T : Nat → Nat → Int} {k j : Nat} {P : Nat → Nat → Prop} {γ g : GG} (h : JC T (γ (2 + k)) j) (o : OffS k P γ g) (hp : ∀ f i, P f i → f = 25 ∨ f = 26 ∨ 21 ≤ f ∨ f ≤ 3 ∨ 8 ≤ f) : JC T (g (2 + k)) j := h.cg (fun f h1 h2 => o.s (fun q => by have := hp f j q; omega))
/-- the nodes that are taken -/
def UsC (σ : Nat → Nat → Int) (us : List Nat) : Prop := ∃ b : Nat, σ 1 0 = (b : Int) ∧ b < 2 ^ 23 ∧ us.Nodup ∧ ∀ z, b.testBit z = true ↔ z ∈ us
theorem UsC.lt {σ : Nat → Nat → Int} {us : List Nat} (h : UsC σ us) : ∀ z ∈ us, z < 23 := fun z hz => by
  obtain ⟨b, _, h2, _, h4⟩ := h
  refine Classical.byContradiction (fun hn => ?_)
  have h5 := (h4 z).mpr hz
  rw [Nat.testBit_lt_two_pow (Nat.lt_of_lt_of_le h2 (Nat.pow_le_pow_right (by decide) (by omega)))] at h5
  cases h5
theorem UsC.cg {σ σ' : Nat → Nat → Int} {us us' : List Nat} (h : UsC σ us) (e : σ' 1 0 = σ 1 0) (hn : us'.Nodup) (hm : ∀ z, z ∈ us ↔ z ∈ us') : UsC σ' us' := by
  obtain ⟨b, h1, h2, _, h4⟩ := h
  exact ⟨b, by rw [e]; exact h1, h2, hn, fun z => (h4 z).trans (hm z)⟩
theorem low_zero (b : Nat) : ∀ (n m : Nat), (∃ i, m ≤ i ∧ i < m + n ∧ b.testBit i = false) → ∃ k, m ≤ k ∧ k < m + n ∧ b.testBit k = false ∧ ∀ i, m ≤ i → i < k → b.testBit i = true
  | 0, m, ⟨i, h1, h2, _⟩ => by omega
  | n + 1, m, ⟨i, h1, h2, h3⟩ => by
    by_cases e : b.testBit m = true
    · have hne : i ≠ m := fun q => by rw [q, e] at h3; cases h3
      obtain ⟨k, a1, a2, a3, a4⟩ := low_zero b n (m + 1) ⟨i, by omega, by omega, h3⟩
      refine ⟨k, by omega, by omega, a3, fun q q1 q2 => ?_⟩
      by_cases e2 : q = m
      · rw [e2]; exact e
      · exact a4 q (by omega) q2
    · exact ⟨m, by omega, by omega, by simpa using e, fun q q1 q2 => by omega⟩
theorem UsC.free {b : Nat} {us : List Nat} (hn : us.Nodup) (h4 : ∀ z, b.testBit z = true ↔ z ∈ us) (hl : us.length < 23) : ∃ k, k < 23 ∧ b.testBit k = false ∧ (∀ i, i < k → b.testBit i = true) := by
  have hx : ∃ i, 0 ≤ i ∧ i < 0 + 23 ∧ b.testBit i = false := by
    refine Classical.byContradiction (fun hq => ?_)
    have hall : ∀ i, i < 23 → i ∈ us := fun i hi => (h4 i).mp (by
      cases e : b.testBit i with
      | true => rfl
      | false => exact absurd ⟨i, by omega, by omega, e⟩ hq)
    have := nd_perm (L := List.range 23) (M := us.filter (fun z => decide (z < 23))) List.nodup_range (hn.sublist List.filter_sublist) (fun i => by
      rw [List.mem_range, List.mem_filter]
      exact ⟨fun q => ⟨hall i q, by simpa using q⟩, fun q => by simpa using q.2⟩)
    have h5 := this.length_eq
    have h6 := List.length_filter_le (fun z => decide (z < 23)) us
    simp at h5
    omega
  obtain ⟨k, _, a2, a3, a4⟩ := low_zero b 23 0 hx
  exact ⟨k, by omega, a3, fun i hi => a4 i (by omega) hi⟩
theorem UsC.take {σ' : Nat → Nat → Int} {b x : Nat} {us : List Nat} (h2 : b < 2 ^ 23) (hn : us.Nodup) (h4 : ∀ z, b.testBit z = true ↔ z ∈ us) (hx : x < 23) (hf : b.testBit x = false) (e : σ' 1 0 = ((b ||| 2 ^ x : Nat) : Int)) : UsC σ' (x :: us) ∧ x ∉ us := by
  have hxu : x ∉ us := fun q => by rw [(h4 x).mpr q] at hf; cases hf
  refine ⟨⟨b ||| 2 ^ x, e, Nat.or_lt_two_pow h2 (Nat.pow_lt_pow_right (by decide) hx), List.nodup_cons.mpr ⟨hxu, hn⟩, fun z => ?_⟩, hxu⟩
  rw [or_bit]
  simp [h4 z]
  exact ⟨fun q => q.elim Or.inr (fun e => Or.inl e.symm), fun q => q.elim (fun e => Or.inr e.symm) Or.inl⟩
theorem UsC.give {σ σ' : Nat → Nat → Int} {x : Nat} {us us' : List Nat} (h : UsC σ us) {b : Nat} (hb : σ 1 0 = (b : Int)) (e : σ' 1 0 = ((b ^^^ (b &&& 2 ^ x) : Nat) : Int)) (hn : us'.Nodup) (hm : ∀ z, z ∈ us' ↔ z ∈ us ∧ z ≠ x) : UsC σ' us' := by
  obtain ⟨b', h1, h2, h3, h4⟩ := h
  have : b' = b := by omega
  subst this
  refine ⟨_, e, Nat.xor_lt_two_pow h2 (Nat.lt_of_le_of_lt Nat.and_le_left h2), hn, fun z => ?_⟩
  rw [xor_bit, hm z, ← h4 z]
  simp
  intro _
  exact ⟨fun q e => q e.symm, fun q e => q e.symm⟩
section PU
variable {T σ σ2 : Nat → Nat → Int} {s : Nat} {a b : TT} {x : Nat} {S : Nat → Bool} {ns : List Nat} {xa xb : Nat} {na nb : List Nat} {i j w l : Nat}
theorem RC.pushL (e : ns = x :: (na ++ nb)) (hn : ns.Nodup) (h1 : x < 23) (h2 : σ 21 x = (xa : Int)) (h3 : σ 22 x = (xb : Int)) (h4 : (s : Int) = 16 * σ 23 x + σ 24 x ∧ (0 ≤ σ 24 x ∧ σ 24 x < 12) ∧ 0 ≤ σ 23 x ∧ σ 23 x ≤ 99) (h5 : σ 26 x = ((tl a).length + (tl b).length : Int)) (h8 : RC T σ b xb (wo S (bst (rkT T) S (tl a ++ tl b))) nb) (hi : bst (rkT T) S (tl a ++ tl b) = (i : Int)) (hj : j ∈ tl a ++ tl b) (hs : S j = false) (hwl : (ahd (rkT T) j i ∧ w = j ∧ l = i) ∨ (¬ ahd (rkT T) j i ∧ w = i ∧ l = j)) (hnd : (tl a ++ tl b).Nodup) (hl : l ∈ tl a)
    (e25 : σ2 25 x = (w : Int)) (e2 : ∀ f z, ¬ (f = 25 ∧ (z = x ∨ z ∈ na)) → σ2 f z = σ f z) (hr : RC T σ2 a xa (ad1 (wo S (i : Int)) l) na) : RC T σ2 (.branch s a b) x (ad1 S j) ns := by
  obtain ⟨p1, p2, p3, p4⟩ := push_wl hi hj hs hwl
  rw [e] at hn
  have hn1 := List.nodup_cons.mp hn
  refine ⟨xa, xb, na, nb, e, h1, by rw [e2 _ _ (by omega)]; exact h2, by rw [e2 _ _ (by omega)]; exact h3, by rw [e2 _ _ (by omega), e2 _ _ (by omega)]; exact h4, by rw [e2 _ _ (by omega)]; exact h5, by rw [e25, p1], by rw [p1, p2]; exact hr, ?_⟩
  rw [p1, p2]
  rw [hi] at h8
  refine (h8.cgS (T' := T) (fun q hq => ⟨(ad_oth (fun e => ?_)).symm, rfl, fun _ => rfl⟩)).cg (fun z hz f _ _ => e2 f z (fun q => ?_))
  · exact nd_app hnd hl (e ▸ hq)
  · rcases q.2 with q | q
    · exact hn1.1 (by rw [← q]; exact List.mem_append_right _ hz)
    · exact nd_app hn1.2 q hz
theorem RC.pushR (e : ns = x :: (na ++ nb)) (hn : ns.Nodup) (h1 : x < 23) (h2 : σ 21 x = (xa : Int)) (h3 : σ 22 x = (xb : Int)) (h4 : (s : Int) = 16 * σ 23 x + σ 24 x ∧ (0 ≤ σ 24 x ∧ σ 24 x < 12) ∧ 0 ≤ σ 23 x ∧ σ 23 x ≤ 99) (h5 : σ 26 x = ((tl a).length + (tl b).length : Int)) (h7 : RC T σ a xa (wo S (bst (rkT T) S (tl a ++ tl b))) na) (hi : bst (rkT T) S (tl a ++ tl b) = (i : Int)) (hj : j ∈ tl a ++ tl b) (hs : S j = false) (hwl : (ahd (rkT T) j i ∧ w = j ∧ l = i) ∨ (¬ ahd (rkT T) j i ∧ w = i ∧ l = j)) (hnd : (tl a ++ tl b).Nodup) (hl : l ∈ tl b)
    (e25 : σ2 25 x = (w : Int)) (e2 : ∀ f z, ¬ (f = 25 ∧ (z = x ∨ z ∈ nb)) → σ2 f z = σ f z) (hr : RC T σ2 b xb (ad1 (wo S (i : Int)) l) nb) : RC T σ2 (.branch s a b) x (ad1 S j) ns := by
  obtain ⟨p1, p2, p3, p4⟩ := push_wl hi hj hs hwl
  rw [e] at hn
  have hn1 := List.nodup_cons.mp hn
  refine ⟨xa, xb, na, nb, e, h1, by rw [e2 _ _ (by omega)]; exact h2, by rw [e2 _ _ (by omega)]; exact h3, by rw [e2 _ _ (by omega), e2 _ _ (by omega)]; exact h4, by rw [e2 _ _ (by omega)]; exact h5, by rw [e25, p1], ?_, by rw [p1, p2]; exact hr⟩
  rw [p1, p2]
  rw [hi] at h7
  refine (h7.cgS (T' := T) (fun q hq => ⟨(ad_oth (fun e => ?_)).symm, rfl, fun _ => rfl⟩)).cg (fun z hz f _ _ => e2 f z (fun q => ?_))
  · exact nd_app hnd hq (e ▸ hl)
  · rcases q.2 with q | q
    · exact hn1.1 (by rw [← q]; exact List.mem_append_left _ hz)
    · exact nd_app hn1.2 hz q
/-- a node that holds nothing pulled one up out of its left part -/
theorem RC.pullL {h : Int} (e : ns = x :: (na ++ nb)) (hn : ns.Nodup) (h1 : x < 23) (h2 : σ 21 x = (xa : Int)) (h3 : σ 22 x = (xb : Int)) (h4 : (s : Int) = 16 * σ 23 x + σ 24 x ∧ (0 ≤ σ 24 x ∧ σ 24 x < 12) ∧ 0 ≤ σ 23 x ∧ σ 23 x ≤ 99) (h5 : σ 26 x = ((tl a).length + (tl b).length : Int)) (h8 : RC T σ b xb S nb) (hb : bst (rkT T) S (tl a ++ tl b) = h) (hv : ∀ q ∈ tl b, (q : Int) ≠ h)
    (e25 : σ2 25 x = h) (e2 : ∀ f z, ¬ (f = 25 ∧ (z = x ∨ z ∈ na)) → σ2 f z = σ f z) (hr : RC T σ2 a xa (wo S h) na) : RC T σ2 (.branch s a b) x S ns := by
  rw [e] at hn
  have hn1 := List.nodup_cons.mp hn
  refine ⟨xa, xb, na, nb, e, h1, by rw [e2 _ _ (by omega)]; exact h2, by rw [e2 _ _ (by omega)]; exact h3, by rw [e2 _ _ (by omega), e2 _ _ (by omega)]; exact h4, by rw [e2 _ _ (by omega)]; exact h5, by rw [e25, hb], by rw [hb]; exact hr, ?_⟩
  rw [hb]
  refine (h8.woS hv).cg (fun z hz f _ _ => e2 f z (fun q => ?_))
  rcases q.2 with q | q
  · exact hn1.1 (by rw [← q]; exact List.mem_append_right _ hz)
  · exact nd_app hn1.2 q hz
theorem RC.pullR {h : Int} (e : ns = x :: (na ++ nb)) (hn : ns.Nodup) (h1 : x < 23) (h2 : σ 21 x = (xa : Int)) (h3 : σ 22 x = (xb : Int)) (h4 : (s : Int) = 16 * σ 23 x + σ 24 x ∧ (0 ≤ σ 24 x ∧ σ 24 x < 12) ∧ 0 ≤ σ 23 x ∧ σ 23 x ≤ 99) (h5 : σ 26 x = ((tl a).length + (tl b).length : Int)) (h7 : RC T σ a xa S na) (hb : bst (rkT T) S (tl a ++ tl b) = h) (hv : ∀ q ∈ tl a, (q : Int) ≠ h)
    (e25 : σ2 25 x = h) (e2 : ∀ f z, ¬ (f = 25 ∧ (z = x ∨ z ∈ nb)) → σ2 f z = σ f z) (hr : RC T σ2 b xb (wo S h) nb) : RC T σ2 (.branch s a b) x S ns := by
  rw [e] at hn
  have hn1 := List.nodup_cons.mp hn
  refine ⟨xa, xb, na, nb, e, h1, by rw [e2 _ _ (by omega)]; exact h2, by rw [e2 _ _ (by omega)]; exact h3, by rw [e2 _ _ (by omega), e2 _ _ (by omega)]; exact h4, by rw [e2 _ _ (by omega)]; exact h5, by rw [e25, hb], ?_, by rw [hb]; exact hr⟩
  rw [hb]
  refine (h7.woS hv).cg (fun z hz f _ _ => e2 f z (fun q => ?_))
  rcases q.2 with q | q
  · exact hn1.1 (by rw [← q]; exact List.mem_append_left _ hz)
  · exact nd_app hn1.2 hz q
end PU
