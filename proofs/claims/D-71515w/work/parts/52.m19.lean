/-! the model: node, count -/
def nav (R : Nat → Int) (p : Nat) : Nat → TT → (Nat → Bool) → Option (TT × (Nat → Bool))
  | 0, t, S => some (t, S)
  | _ + 1, .leaf _, _ => none
  | k + 1, .branch _ a b, S => nav R p k (if p.testBit k = true then b else a) (wo S (bst R S (tl a ++ tl b)))
def spS : TT → (Nat → Nat → Int) → Int
  | .leaf j, T => T 2 j
  | .branch s _ _, _ => ((s / 16 : Nat) : Int)
def spN : TT → Int
  | .leaf j => j
  | .branch s _ _ => ((s % 16 : Nat) : Int)
/-- what node answers -/
def qNode (v : VV) (p : Nat) (w : Int) : Int := match nav (rkT v.2.1) p (Nat.log2 p) v.2.2 (fun _ => true) with
  | none => -4
  | some q => if w = 0 then bst (rkT v.2.1) q.2 (tl q.1) else if w = 1 then spS q.1 v.2.1 else if w = 2 then spN q.1 else ((tl q.1).length : Int)
theorem nav_cg {R R' : Nat → Int} {p : Nat} : ∀ (k : Nat) (t : TT) (S : Nat → Bool), (∀ i ∈ tl t, R i = R' i) → nav R p k t S = nav R' p k t S
  | 0, _, _, _ => by simp [nav]
  | _ + 1, .leaf _, _, _ => by simp [nav]
  | k + 1, .branch s a b, S, h => by
    have e : bst R S (tl a ++ tl b) = bst R' S (tl a ++ tl b) := bst_cg h (fun _ _ => rfl)
    simp only [nav]
    rw [e]
    refine nav_cg k _ _ (fun i hi => h i ?_)
    split at hi
    · exact List.mem_append_right _ hi
    · exact List.mem_append_left _ hi
theorem nav_sub {R : Nat → Int} {p : Nat} : ∀ (k : Nat) (t : TT) (S : Nat → Bool) {q : TT × (Nat → Bool)}, nav R p k t S = some q → ∀ i ∈ tl q.1, i ∈ tl t
  | 0, t, S, q, h, i, hi => by simp [nav] at h; rw [← h] at hi; exact hi
  | _ + 1, .leaf _, _, q, h, _, _ => by simp [nav] at h
  | k + 1, .branch s a b, S, q, h, i, hi => by
    simp only [nav] at h
    have := nav_sub k _ _ h i hi
    split at this
    · exact List.mem_append_right _ this
    · exact List.mem_append_left _ this
theorem RepM.sp {σ T : Nat → Nat → Int} : ∀ {t : TT} {x : Nat} {ns : List Nat}, RepM σ t x ns → (∀ j ∈ tl t, σ 2 j = T 2 j) → σ 9 x = spS t T ∧ σ 10 x = spN t
  | .leaf j, x, ns, h, hT => by
    obtain ⟨e1, e2, e3, e4, e5, e6, e7⟩ := h
    exact ⟨by rw [e5]; exact hT j (by simp [tl]), e6⟩
  | .branch s a b, x, ns, h, hT => by
    obtain ⟨xa, xb, na, nb, e1, e2, e3, e4, e5, e6, e7, e8, e9, e10, e11⟩ := h
    simp only [spS, spN]
    constructor <;> omega
theorem and_pow (p k : Nat) : p &&& 2 ^ k = (p.testBit k).toNat * 2 ^ k := by
  apply Nat.eq_of_testBit_eq
  intro i
  rw [Nat.testBit_and, Nat.testBit_two_pow]
  cases e : p.testBit k with
  | true =>
    rw [Bool.toNat_true, Nat.one_mul, Nat.testBit_two_pow]
    by_cases q : k = i
    · rw [← q, e]; simp
    · simp [q]
  | false =>
    simp
    intro h1 h2
    rw [h2, h1] at e
    cases e
section M19
variable {l : Launch} {E : EE}
theorem ct_nodeBy (hE : EOk E) (hm : 438 ≤ E.nk) (γ : GG) {r : Nat} {t : TT} {ns : List Nat} (R : Nat → Int) (hr0 : γ 0 5 0 = (r : Int)) (hr : RepM (γ 0) t r ns) {p : Nat} (hp : 1 ≤ p) (hp2 : p ≤ 4095) : Ct l yX8_nodeBy cX8_nodeBy 5 (some .int) E 200 20000 [.ref (E.ad 414), .int (iI (p : Int))] γ (fun v g => γ = g ∧ ((nav R p (Nat.log2 p) t (fun _ => true) = none ∧ v = some (.int (iI (-4)))) ∨ ∃ (q : TT × (Nat → Bool)) (i y : Nat) (nu : List Nat), nav R p (Nat.log2 p) t (fun _ => true) = some q ∧ ns[i]? = some y ∧ RepM (γ 0) q.1 y nu ∧ (hl R t (fun _ => true))[i]? = some (bst R q.2 (tl q.1)) ∧ v = some (.int (iI (y : Int))))) 0 0 := by
  refine Ct.of hE (by decide) (Nat.le_of_ble_eq_true rfl) (fun Φ hLn hΦ F hfr hlo => ?_)
  subst hLn; subst hΦ
  have h414 := F.ok.1.2.2
  have hrc := F.rc
  have hrs := F.rs
  show Wg Φ 5 _ 0 0 0 [(0, _), (1, _)] []
  refine w_rng (fun hR => ?_)
  have hk1 : 2 ^ Nat.log2 p ≤ p := Nat.log2_self_le (by omega)
  have hk2 : p < 2 ^ (Nat.log2 p + 1) := Nat.lt_log2_self
  have hr24 := hr.lt
  have loop2 : ∀ (k : Nat) (u : TT) (x : Nat) (nu : List Nat) (S : Nat → Bool) (off : Nat) (hi : Int), 2 ^ k ≤ 4095 → RepM (γ 0) u x nu → nav R p k u S = nav R p (Nat.log2 p) t (fun _ => true) → (∀ i z, nu[i]? = some z → ns[off + i]? = some z) → (∀ i z, (hl R u S)[i]? = some z → (hl R t (fun _ => true))[off + i]? = some z) → Wg Φ 5 γ 0 0 26 [(0, .ref (Φ.E.ad 414)), (1, .int (iI (p : Int))), (2, .int (iI hi)), (3, .int (iI (x : Int))), (4, .int (iI ((2 ^ k / 2 : Nat) : Int)))] [] := by
    intro k
    induction k with
    | zero =>
      intro u x nu S off hi hk h1 h2 h3 h4
      have hx := h1.lt
      refine w_iload F dX8_nodeBy_26 rfl ?_
      refine w_if_le F (tgt := 82) dX8_nodeBy_28 (by decide) (by first | assumption | exact inR0 | exact (hR _ _ _).1 | (constructor <;> omega)) (fun h => ?_) (fun h => ?_)
      · obtain ⟨rr, hrr⟩ := h1.hd
        obtain ⟨hh, hhr⟩ := hl_hd R u S
        refine w_iload_n F dX8_nodeBy_82 rfl ?_
        exact w_iret F (by omega) (by omega) (⟨rfl, Or.inr ⟨(u, S), off + 0, x, nu, by rw [← h2]; simp [nav], h3 0 x (by rw [hrr]; rfl), h1, h4 0 _ (by rw [hhr]; rfl), rfl⟩⟩) dX8_nodeBy_83
      · simp at h
    | succ k ih =>
      intro u x nu S off hi hk h1 h2 h3 h4
      have hx := h1.lt
      have hpow : 2 ^ (k + 1) / 2 = 2 ^ k := by rw [Nat.pow_succ]; omega
      have hpos : 0 < 2 ^ k := Nat.pow_pos (by decide)
      have hle : 2 ^ k ≤ 4095 := by rw [Nat.pow_succ] at hk; omega
      rw [hpow]
      refine w_iload F dX8_nodeBy_26 rfl ?_
      refine w_if_le F (tgt := 82) dX8_nodeBy_28 (by decide) (by first | assumption | exact inR0 | exact (hR _ _ _).1 | (constructor <;> omega)) (fun h => ?_) (fun h => ?_)
      · omega
      · refine w_iload_n F dX8_nodeBy_31 rfl ?_
        refine w_bipush F dX8_nodeBy_32 rfl ?_
        refine w_icmp_eq F (tgt := 82) dX8_nodeBy_34 (by decide) (by first | assumption | exact inR0 | exact (hR _ _ _).1 | (constructor <;> omega)) (by first | assumption | exact inR0 | exact (hR _ _ _).1 | (constructor <;> omega)) (fun h5 => ?_) (fun h5 => ?_)
        · omega
        · refine w_aload_n F dX8_nodeBy_37 rfl rfl ?_
          refine w_iload_n F dX8_nodeBy_38 rfl ?_
          refine w_callV F (As := [_]) (ct_isLeaf hE hm γ hx) (lw_V q841 q843 qs38 q88 q844) md_X8_isLeaf (by omega) cell_mdO rfl rfl rfl rfl (Nat.le_of_ble_eq_true rfl) dX8_nodeBy_39 ⟨by omega, by omega⟩ ⟨by omega, by omega⟩ ?_
          rintro _ _ ⟨rfl, rfl⟩
          cases u with
          | leaf j =>
            obtain ⟨e1, e2, e3, e4, e5, e6, e7⟩ := h1
            refine w_if_eq F (tgt := 50) dX8_nodeBy_42 (by decide) (b2i_R _) (fun h6 => ?_) (fun h6 => ?_)
            · rw [b2i_0] at h6
              exact absurd e3 h6
            · refine w_bipush F dX8_nodeBy_45 rfl ?_
              refine w_goto F (tgt := 72) dX8_nodeBy_47 (by decide) ?_
              refine w_istore_n F dX8_nodeBy_72 (by decide) rfl (lv' := [(0, _), (1, _), (2, _), (3, _), (4, _)]) rfl ?_
              refine w_iload F dX8_nodeBy_73 rfl ?_
              refine w_iconst F dX8_nodeBy_75 ?_
              refine w_idiv F dX8_nodeBy_76 (by omega) (by first | assumption | exact inR0 | exact (hR _ _ _).1 | (constructor <;> omega)) (by decide) (by decide) ?_
              refine w_istore F dX8_nodeBy_77 (by decide) rfl (lv' := [(0, _), (1, _), (2, _), (3, _), (4, _)]) rfl ?_
              refine w_goto F (tgt := 26) dX8_nodeBy_79 (by decide) ?_
              have hn : nav R p (Nat.log2 p) t (fun _ => true) = none := by rw [← h2]; simp [nav]
              have hd : (2 ^ k : Int) / 2 = ((2 ^ k / 2 : Nat) : Int) := by rw [Int.natCast_ediv]; simp
              refine w_iload F dX8_nodeBy_26 rfl ?_
              refine w_if_le F (tgt := 82) dX8_nodeBy_28 (by decide) (by constructor <;> omega) (fun h7 => ?_) (fun h7 => ?_)
              · refine w_iload_n F dX8_nodeBy_82 rfl ?_
                exact w_iret F (by omega) (by omega) (⟨rfl, Or.inl ⟨hn, rfl⟩⟩) dX8_nodeBy_83
              · refine w_iload_n F dX8_nodeBy_31 rfl ?_
                refine w_bipush F dX8_nodeBy_32 rfl ?_
                refine w_icmp_eq F (tgt := 82) dX8_nodeBy_34 (by decide) (by first | assumption | exact inR0 | exact (hR _ _ _).1 | (constructor <;> omega)) (by first | assumption | exact inR0 | exact (hR _ _ _).1 | (constructor <;> omega)) (fun h8 => ?_) (fun h8 => ?_)
                · refine w_iload_n F dX8_nodeBy_82 rfl ?_
                  exact w_iret F (by omega) (by omega) (⟨rfl, Or.inl ⟨hn, rfl⟩⟩) dX8_nodeBy_83
                · exact absurd rfl h8
          | branch s a b =>
            obtain ⟨xa, xb, na, nb, e1, e2, e3, e4, e5, e6, e7⟩ := h1
            have hxa := e5.lt
            have hxb := e6.lt
            have hlA : (hl R a (wo S (bst R S (tl a ++ tl b)))).length = na.length := by rw [hl_len, e5.len]
            refine w_if_eq F (tgt := 50) dX8_nodeBy_42 (by decide) (b2i_R _) (fun h6 => ?_) (fun h6 => ?_)
            · refine w_iload_n F dX8_nodeBy_50 rfl ?_
              refine w_iload F dX8_nodeBy_51 rfl ?_
              first | refine w_iandC F (by omega) dX8_nodeBy_53 ?_ | refine w_iand F dX8_nodeBy_53 ?_
              have hb := and_pow p k
              refine w_if_ne F (tgt := 66) dX8_nodeBy_54 (by decide) (by rw [hb]; have := Bool.toNat_le (p.testBit k); have := Nat.mul_le_mul_right (2 ^ k) this; constructor <;> omega) (fun h7 => ?_) (fun h7 => ?_)
              · have hbit : p.testBit k = true := by
                  cases e : p.testBit k with
                  | true => rfl
                  | false => rw [hb, e] at h7; simp at h7
                refine w_aload_n F dX8_nodeBy_66 rfl rfl ?_
                refine w_get F (by omega) cell_mdO rfl in_X8 7 (by decide) (Or.inl q879) rfl dX8_nodeBy_67 ?_
                refine w_iload_n F dX8_nodeBy_70 rfl ?_
                first | refine w_ialdN F (aM7 _) (by omega) (by decide) (by omega) dX8_nodeBy_71 ?_ | refine w_iald F (aM7 _) (by omega) (by decide) (by omega) (by omega) dX8_nodeBy_71 ?_
                refine w_top e4 ?_
                refine w_istore_n F dX8_nodeBy_72 (by decide) rfl (lv' := [(0, _), (1, _), (2, _), (3, _), (4, _)]) rfl ?_
                refine w_iload F dX8_nodeBy_73 rfl ?_
                refine w_iconst F dX8_nodeBy_75 ?_
                refine w_idiv F dX8_nodeBy_76 (by omega) (by first | assumption | exact inR0 | exact (hR _ _ _).1 | (constructor <;> omega)) (by decide) (by decide) ?_
                refine w_istore F dX8_nodeBy_77 (by decide) rfl (lv' := [(0, _), (1, _), (2, _), (3, _), (4, _)]) rfl ?_
                refine w_goto F (tgt := 26) dX8_nodeBy_79 (by decide) ?_
                refine ih b xb nb (wo S (bst R S (tl a ++ tl b))) (off + 1 + na.length) hi hle e6 ?_ ?_ ?_
                · rw [← h2]; simp only [nav]; rw [if_pos hbit]
                · intro i z hz
                  rw [show off + 1 + na.length + i = off + (na.length + i + 1) by omega]
                  exact h3 _ z (by rw [e1, List.getElem?_cons_succ, List.getElem?_append_right (by omega), show na.length + i - na.length = i by omega]; exact hz)
                · intro i z hz
                  rw [show off + 1 + na.length + i = off + (na.length + i + 1) by omega]
                  exact h4 _ z (by simp only [hl]; rw [List.getElem?_cons_succ, List.getElem?_append_right (by omega), hlA, show na.length + i - na.length = i by omega]; exact hz)
              · have hbit : ¬ p.testBit k = true := fun e => by
                  rw [hb, e, Bool.toNat_true, Nat.one_mul] at h7
                  have := Int.natCast_eq_zero.mp h7
                  omega
                refine w_aload_n F dX8_nodeBy_57 rfl rfl ?_
                refine w_get F (by omega) cell_mdO rfl in_X8 6 (by decide) (Or.inl q878) rfl dX8_nodeBy_58 ?_
                refine w_iload_n F dX8_nodeBy_61 rfl ?_
                first | refine w_ialdN F (aM6 _) (by omega) (by decide) (by omega) dX8_nodeBy_62 ?_ | refine w_iald F (aM6 _) (by omega) (by decide) (by omega) (by omega) dX8_nodeBy_62 ?_
                refine w_goto F (tgt := 72) dX8_nodeBy_63 (by decide) ?_
                refine w_top e3 ?_
                refine w_istore_n F dX8_nodeBy_72 (by decide) rfl (lv' := [(0, _), (1, _), (2, _), (3, _), (4, _)]) rfl ?_
                refine w_iload F dX8_nodeBy_73 rfl ?_
                refine w_iconst F dX8_nodeBy_75 ?_
                refine w_idiv F dX8_nodeBy_76 (by omega) (by first | assumption | exact inR0 | exact (hR _ _ _).1 | (constructor <;> omega)) (by decide) (by decide) ?_
                refine w_istore F dX8_nodeBy_77 (by decide) rfl (lv' := [(0, _), (1, _), (2, _), (3, _), (4, _)]) rfl ?_
                refine w_goto F (tgt := 26) dX8_nodeBy_79 (by decide) ?_
                refine ih a xa na (wo S (bst R S (tl a ++ tl b))) (off + 1) hi hle e5 ?_ ?_ ?_
                · rw [← h2]; simp only [nav]; rw [if_neg hbit]
                · intro i z hz
                  rw [show off + 1 + i = off + (i + 1) by omega]
                  exact h3 _ z (by rw [e1, List.getElem?_cons_succ, List.getElem?_append_left (List.getElem?_eq_some_iff.mp hz).1]; exact hz)
                · intro i z hz
                  rw [show off + 1 + i = off + (i + 1) by omega]
                  exact h4 _ z (by simp only [hl]; rw [List.getElem?_cons_succ, List.getElem?_append_left (List.getElem?_eq_some_iff.mp hz).1]; exact hz)
            · rw [b2i_n0] at h6
              omega
  refine w_iconst F dX8_nodeBy_0 ?_
  refine w_istore_n F dX8_nodeBy_1 (by decide) rfl (lv' := [(0, _), (1, _), (2, _)]) rfl ?_
  have loop1 : ∀ (m k w : Nat), w = 2 ^ k → k ≤ Nat.log2 p → Nat.log2 p - k < m → Wg Φ 5 γ 0 0 2 [(0, .ref (Φ.E.ad 414)), (1, .int (iI (p : Int))), (2, .int (iI (w : Int)))] [] := by
    intro m
    induction m with
    | zero => intro k w hw h1 h2; omega
    | succ m ih =>
      intro k w hw h1 h2
      have hle : 2 ^ k ≤ 2 ^ Nat.log2 p := Nat.pow_le_pow_right (by decide) h1
      rw [← hw] at hle
      have hwp : w ≤ p := Nat.le_trans hle hk1
      refine w_iconst F dX8_nodeBy_2 ?_
      refine w_iload_n F dX8_nodeBy_3 rfl ?_
      refine w_imul F dX8_nodeBy_4 ?_
      refine w_iload_n F dX8_nodeBy_5 rfl ?_
      refine w_icmp_gt F (tgt := 16) dX8_nodeBy_6 (by decide) (by first | assumption | exact inR0 | exact (hR _ _ _).1 | (constructor <;> omega)) (by first | assumption | exact inR0 | exact (hR _ _ _).1 | (constructor <;> omega)) (fun h => ?_) (fun h => ?_)
      · have hk : k = Nat.log2 p := by
          rcases Nat.lt_or_ge k (Nat.log2 p) with q | q
          · have h7 : 2 ^ (k + 1) ≤ 2 ^ Nat.log2 p := Nat.pow_le_pow_right (by decide) q
            rw [Nat.pow_succ, ← hw] at h7
            have := Nat.le_trans h7 hk1
            omega
          · omega
        refine w_aload_n F dX8_nodeBy_16 rfl rfl ?_
        refine w_getF F (fM5 _) (by omega) rfl in_X8 (by decide) (Or.inl q877) dX8_nodeBy_17 ?_
        refine w_top hr0 ?_
        refine w_istore_n F dX8_nodeBy_20 (by decide) rfl (lv' := [(0, _), (1, _), (2, _), (3, _)]) rfl ?_
        refine w_iload_n F dX8_nodeBy_21 rfl ?_
        refine w_iconst F dX8_nodeBy_22 ?_
        refine w_idiv F dX8_nodeBy_23 (by omega) (by first | assumption | exact inR0 | exact (hR _ _ _).1 | (constructor <;> omega)) (by decide) (by decide) ?_
        refine w_top (z' := ((w / 2 : Nat) : Int)) (by omega) ?_
        refine w_istore F dX8_nodeBy_24 (by decide) rfl (lv' := [(0, _), (1, _), (2, _), (3, _), (4, _)]) rfl ?_
        rw [hw, hk]
        exact loop2 (Nat.log2 p) t r ns (fun _ => true) 0 _ (Nat.le_trans hk1 hp2) hr rfl (fun i z hz => by rw [Nat.zero_add]; exact hz) (fun i z hz => by rw [Nat.zero_add]; exact hz)
      · have hk : k ≠ Nat.log2 p := fun e => by
          rw [Nat.pow_succ, ← e, ← hw] at hk2
          omega
        refine w_iload_n F dX8_nodeBy_9 rfl ?_
        refine w_iconst F dX8_nodeBy_10 ?_
        refine w_imul F dX8_nodeBy_11 ?_
        refine w_istore_n F dX8_nodeBy_12 (by decide) rfl (lv' := [(0, _), (1, _), (2, _)]) rfl ?_
        refine w_goto F (tgt := 2) dX8_nodeBy_13 (by decide) ?_
        rw [show (w : Int) * 2 = ((w * 2 : Nat) : Int) by omega]
        exact ih (k + 1) (w * 2) (by rw [hw, Nat.pow_succ]) (by omega) (by omega)
  exact loop1 (Nat.log2 p + 1) 0 1 rfl (by omega) (by omega)
end M19
