/-! who holds a job; depths: the model's job -/
theorem hl_count (R : Nat → Int) (j : Nat) : ∀ (t : TT) (S : Nat → Bool), (tl t).Nodup → (j ∈ tl t → S j = true → (hl R t S).count (j : Int) = 1) ∧ (¬ (j ∈ tl t ∧ S j = true) → (hl R t S).count (j : Int) = 0)
  | .leaf q, S, _ => by
    simp only [hl, tl]
    rcases bst_spec R S [q] with ⟨e, h⟩ | ⟨i, e, h, _⟩
    · rw [e]
      refine ⟨fun h1 h2 => absurd ⟨h1, h2⟩ (h j), fun _ => ?_⟩
      rw [List.count_eq_zero, List.mem_singleton]
      omega
    · have hi : i = q := by simpa using h.1
      subst hi
      rw [e]
      refine ⟨fun h1 h2 => ?_, fun h1 => ?_⟩
      · have : j = i := by simpa using h1
        rw [this]
        simp
      · have : j ≠ i := fun e2 => h1 (by rw [e2]; exact h)
        rw [List.count_eq_zero, List.mem_singleton]
        omega
  | .branch s a b, S, hn => by
    have hn' := List.nodup_append.mp hn
    obtain ⟨v, hv⟩ : ∃ v, v = bst R S (tl a ++ tl b) := ⟨_, rfl⟩
    have ha := hl_count R j a (wo S v) hn'.1
    have hb := hl_count R j b (wo S v) hn'.2.1
    have hsp := bst_spec R S (tl a ++ tl b)
    simp only [hl]
    rw [← hv] at hsp ⊢
    rw [List.count_cons, List.count_append]
    by_cases e : v = (j : Int)
    · have hin : j ∈ tl a ++ tl b ∧ S j = true := by
        rcases hsp.in with q | ⟨i, q, q2⟩
        · omega
        · have : i = j := by omega
          rw [← this]
          exact q2
      have hw : wo S v j = false := by simp [wo, e]
      rw [ha.2 (by simp [hw]), hb.2 (by simp [hw])]
      refine ⟨fun _ _ => by simp [e], fun h1 => absurd hin h1⟩
    · have hw : wo S v j = S j := by
        have : ¬ (j : Int) = v := fun z => e z.symm
        simp [wo, this]
      rw [hw] at ha hb
      have hv0 : (if (v == (j : Int)) = true then 1 else 0) = 0 := by simp [e]
      rw [hv0]
      refine ⟨fun h1 h2 => ?_, fun h1 => ?_⟩
      · rcases List.mem_append.mp h1 with q | q
        · rw [ha.1 q h2, hb.2 (fun z => hn'.2.2 j q j z.1 rfl)]
        · rw [hb.1 q h2, ha.2 (fun z => hn'.2.2 j z.1 j q rfl)]
      · rw [ha.2 (fun z => h1 ⟨List.mem_append_left _ z.1, z.2⟩), hb.2 (fun z => h1 ⟨List.mem_append_right _ z.1, z.2⟩)]
def dph (R : Nat → Int) (k j : Nat) : TT → (Nat → Bool) → Nat
  | .leaf _, _ => 0
  | .branch s a b, S => if bst R S (tl a ++ tl b) = (j : Int) then 0 else 1 + (if k ≤ s then dph R k j a (wo S (bst R S (tl a ++ tl b))) else dph R k j b (wo S (bst R S (tl a ++ tl b))))
def dpt (k : Nat) : TT → Nat
  | .leaf _ => 0
  | .branch s a b => 1 + (if k ≤ s then dpt k a else dpt k b)
theorem dpt_plug {k : Nat} : ∀ {ctx : List FrT} {u : TT}, Pth k ctx → dpt k (plug ctx u) = ctx.length + dpt k u
  | [], u, _ => by simp [plug]
  | f :: r, u, h => by
    have h1 := dpt_plug (ctx := r) (u := fill f u) (fun q hq => h q (List.mem_cons_of_mem _ hq))
    have hf := h f List.mem_cons_self
    show dpt k (plug r (fill f u)) = _
    rw [h1]
    have : dpt k (fill f u) = 1 + dpt k u := by
      unfold fill
      by_cases e : f.2.2.1 = true
      · rw [if_pos e]
        simp only [dpt]
        rw [if_pos (hf.mp e)]
      · rw [if_neg e]
        simp only [dpt]
        rw [if_neg (fun q => e (hf.mpr q))]
    rw [this, List.length_cons]
    omega
theorem wayH {R : Nat → Int} {κ : Nat → Nat} {σ : Nat → Nat → Int} : ∀ {t : TT} {x : Nat} {ns : List Nat} {ctx : List FrT} {S : Nat → Bool}, RepM σ t x ns → CtxM σ x ctx → OrdT κ t → ∀ {j : Nat}, j ∈ tl t → S j = true → ∃ (i y : Nat) (u : TT) (nu : List Nat) (c2 : List FrT), ns[i]? = some y ∧ (hl R t S)[i]? = some (j : Int) ∧ RepM σ u y nu ∧ CtxM σ y (c2 ++ ctx) ∧ (nu ++ cn (c2 ++ ctx)).Perm (ns ++ cn ctx) ∧ c2.length = dph R (κ j) j t S
  | .leaf q, x, ns, ctx, S, h, hc, _, j, hj, hS => by
    simp [tl] at hj
    subst hj
    have e := h.1
    refine ⟨0, x, .leaf j, ns, [], by rw [e]; rfl, ?_, h, hc, List.Perm.refl _, rfl⟩
    simp only [hl]
    rcases bst_spec R S [j] with ⟨_, h2⟩ | ⟨i, e2, h2, _⟩
    · exact absurd ⟨by simp, hS⟩ (h2 j)
    · have : i = j := by simpa using h2.1
      rw [e2, this]
      rfl
  | .branch s a b, x, ns, ctx, S, h0, hc, ho, j, hj, hS => by
    obtain ⟨xa, xb, na, nb, e1, e2, e3, e4, e5, e6, e7, e8⟩ := id h0
    obtain ⟨v, hv⟩ : ∃ v, v = bst R S (tl a ++ tl b) := ⟨_, rfl⟩
    by_cases ev : v = (j : Int)
    · refine ⟨0, x, .branch s a b, ns, [], by rw [e1]; rfl, ?_, h0, hc, List.Perm.refl _, ?_⟩
      · simp only [hl]
        rw [← hv, ev]
        rfl
      · simp only [dph]
        rw [← hv, if_pos ev]
        rfl
    · have hw : wo S v j = true := by
        have : ¬ (j : Int) = v := fun z => ev z.symm
        simp [wo, this, hS]
      rcases List.mem_append.mp hj with q | q
      · obtain ⟨i, y, u, nu, c2, r1, r2, r3, r4, r5, r6⟩ := wayH (R := R) (κ := κ) (ctx := (x, s, true, b, xb, nb) :: ctx) e5 ⟨⟨e2, ⟨e3, e4⟩, e6, e7, e8⟩, hc⟩ ho.2.2.2.2.1 q hw
        have as : c2 ++ [(x, s, true, b, xb, nb)] ++ ctx = c2 ++ (x, s, true, b, xb, nb) :: ctx := by simp
        refine ⟨i + 1, y, u, nu, c2 ++ [(x, s, true, b, xb, nb)], ?_, ?_, r3, by rw [as]; exact r4, ?_, ?_⟩
        · rw [e1, List.getElem?_cons_succ, List.getElem?_append_left (List.getElem?_eq_some_iff.mp r1).1]
          exact r1
        · simp only [hl]
          rw [← hv, List.getElem?_cons_succ, List.getElem?_append_left (List.getElem?_eq_some_iff.mp r2).1]
          exact r2
        · rw [as]
          refine r5.trans ?_
          rw [e1, List.perm_iff_count]
          intro z
          simp [cn, List.count_cons]
          omega
        · simp only [dph]
          rw [← hv, if_neg ev, if_pos (ho.1 j q), ← r6]
          simp
          omega
      · obtain ⟨i, y, u, nu, c2, r1, r2, r3, r4, r5, r6⟩ := wayH (R := R) (κ := κ) (ctx := (x, s, false, a, xa, na) :: ctx) e6 ⟨⟨e2, ⟨e3, e4⟩, e5, e7, e8⟩, hc⟩ ho.2.2.2.2.2 q hw
        have as : c2 ++ [(x, s, false, a, xa, na)] ++ ctx = c2 ++ (x, s, false, a, xa, na) :: ctx := by simp
        have hlA : (hl R a (wo S v)).length = na.length := by rw [hl_len, e5.len]
        refine ⟨i + na.length + 1, y, u, nu, c2 ++ [(x, s, false, a, xa, na)], ?_, ?_, r3, by rw [as]; exact r4, ?_, ?_⟩
        · rw [e1, List.getElem?_cons_succ, List.getElem?_append_right (by omega), show i + na.length - na.length = i by omega]
          exact r1
        · simp only [hl]
          rw [← hv, List.getElem?_cons_succ, List.getElem?_append_right (by omega), hlA, show i + na.length - na.length = i by omega]
          exact r2
        · rw [as]
          refine r5.trans ?_
          rw [e1, List.perm_iff_count]
          intro z
          simp [cn, List.count_cons]
          omega
        · simp only [dph]
          rw [← hv, if_neg ev, if_neg (by have := ho.2.1 j q; omega), ← r6]
          simp
          omega
theorem cnt_uq {L : List Int} {v : Int} (h : L.count v ≤ 1) : ∀ {i k : Nat}, L[i]? = some v → L[k]? = some v → i = k := by
  induction L with
  | nil => intro i k h1; simp at h1
  | cons a r ih =>
    intro i k h1 h2
    rw [List.count_cons] at h
    cases i with
    | zero =>
      cases k with
      | zero => rfl
      | succ k =>
        simp at h1 h2
        subst h1
        have := List.count_pos_iff.mpr (List.mem_of_getElem? h2)
        simp at h
        omega
    | succ i =>
      cases k with
      | zero =>
        simp at h1 h2
        subst h2
        have := List.count_pos_iff.mpr (List.mem_of_getElem? h1)
        simp at h
        omega
      | succ k =>
        simp at h1 h2
        rw [ih (by omega) h1 h2]
section M17
variable {l : Launch} {E : EE}
theorem ct_holderOf (hE : EOk E) (hm : 438 ≤ E.nk) (γ : GG) {r : Nat} {t : TT} {ns : List Nat} (hr0 : γ 0 5 0 = (r : Int)) (hr : RepM (γ 0) t r ns) (hnd : ns.Nodup) (htn : (tl t).Nodup) (hJ : ∀ j ∈ tl t, JR (γ 0) j) {j i y : Nat} (hj : j ∈ tl t) (hy : ns[i]? = some y) (hi : (hl (rkT (γ 0)) t (fun _ => true))[i]? = some (j : Int)) : Ct l yX8_holderOf cX8_holderOf 5 (some .int) E 600 36000 [.ref (E.ad 414), .int (iI (j : Int))] γ (fun v g => v = some (.int (iI (y : Int))) ∧ Off0 [12, 13, 16, 17, 18] γ g) 0 0 := by
  refine Ct.of hE (by decide) (Nat.le_of_ble_eq_true rfl) (fun Φ hLn hΦ F hfr hlo => ?_)
  subst hLn; subst hΦ
  have h414 := F.ok.1.2.2
  have hrc := F.rc
  have hrs := F.rs
  show Wg Φ 5 _ 0 0 0 [(0, _), (1, _)] []
  refine w_rng (fun hR => ?_)
  have hj12 := (hJ j hj).1
  have hil := (List.getElem?_eq_some_iff.mp hy).1
  have hnl : ns.length ≤ 23 := by
    have h1 := hr.len
    have h2 := nn_tl t
    have h3 := nd_len 12 _ htn (fun z hz => (hJ z hz).1)
    omega
  refine w_aload_n F dX8_holderOf_0 rfl rfl ?_
  refine w_callV F (As := []) (ct_setHolds hE hm γ hr0 hr hnd htn hJ) (lw_V q995 q997 qs49 q88 q998) md_X8_setHolds (by omega) cell_mdO rfl rfl rfl rfl (Nat.le_of_ble_eq_true rfl) dX8_holderOf_1 ⟨by omega, by omega⟩ ⟨by omega, by omega⟩ ?_
  rintro _ g ⟨rfl, h17, h16, o1⟩
  have hv : ∀ k z : Nat, ns[k]? = some z → z < 24 ∧ g 0 17 k = (z : Int) ∧ (hl (rkT (γ 0)) t (fun _ => true))[k]? = some (g 0 16 z) := fun k z hk => ⟨hr.all z (List.mem_of_getElem? hk), h17 k z (by simp [hk]), by rw [← h16]; simp [hk]⟩
  have hcu : (hl (rkT (γ 0)) t (fun _ => true)).count (j : Int) ≤ 1 := by rw [(hl_count _ j _ _ htn).1 hj rfl]; exact Nat.le_refl 1
  have hy24 := (hv i y hy).1
  refine w_istore_n F dX8_holderOf_4 (by decide) rfl (lv' := [(0, _), (1, _), (2, _)]) rfl ?_
  refine w_bipush F dX8_holderOf_5 rfl ?_
  refine w_istore_n F dX8_holderOf_7 (by decide) rfl (lv' := [(0, _), (1, _), (2, _), (3, _)]) rfl ?_
  refine w_iconst F dX8_holderOf_8 ?_
  refine w_istore F dX8_holderOf_9 (by decide) rfl (lv' := [(0, _), (1, _), (2, _), (3, _), (4, _)]) rfl ?_
  have loop : ∀ (m k : Nat) (h : Int), k ≤ ns.length → ns.length - k < m → h = (if i < k then (y : Int) else -4) → Wg Φ 5 g 0 0 11 [(0, .ref (Φ.E.ad 414)), (1, .int (iI (j : Int))), (2, .int (iI (ns.length : Int))), (3, .int (iI h)), (4, .int (iI (k : Int)))] [] := by
    intro m
    induction m with
    | zero => intro k h h1 h2; omega
    | succ m ih =>
      intro k h h1 h2 h3
      have hhr : -4 ≤ h ∧ h < 24 := by rw [h3]; split <;> omega
      refine w_rng (fun hR => ?_)
      refine w_iload F dX8_holderOf_11 rfl ?_
      refine w_iload_n F dX8_holderOf_13 rfl ?_
      refine w_icmp_ge F (tgt := 51) dX8_holderOf_14 (by decide) (by first | assumption | exact inR0 | exact (hR _ _ _).1 | (constructor <;> omega)) (by first | assumption | exact inR0 | exact (hR _ _ _).1 | (constructor <;> omega)) (fun h9 => ?_) (fun h9 => ?_)
      · refine w_iload_n F dX8_holderOf_51 rfl ?_
        exact w_iret F (by omega) (by omega) (⟨by rw [h3, if_pos (by omega)], o1⟩) dX8_holderOf_52
      · obtain ⟨z, hz⟩ : ∃ z, ns[k]? = some z := ⟨ns[k], List.getElem?_eq_getElem (by omega)⟩
        obtain ⟨z1, z2, z3⟩ := hv k z hz
        refine w_aload_n F dX8_holderOf_17 rfl rfl ?_
        refine w_get F (by omega) cell_mdO rfl in_X8 16 (by decide) (Or.inl q888) rfl dX8_holderOf_18 ?_
        refine w_aload_n F dX8_holderOf_21 rfl rfl ?_
        refine w_get F (by omega) cell_mdO rfl in_X8 17 (by decide) (Or.inl q889) rfl dX8_holderOf_22 ?_
        refine w_iload F dX8_holderOf_25 rfl ?_
        first | refine w_ialdN F (aM17 _) (by omega) (by decide) (by omega) dX8_holderOf_27 ?_ | refine w_iald F (aM17 _) (by omega) (by decide) (by omega) (by omega) dX8_holderOf_27 ?_
        refine w_top z2 ?_
        first | refine w_ialdN F (aM16 _) (by omega) (by decide) (by omega) dX8_holderOf_28 ?_ | refine w_iald F (aM16 _) (by omega) (by decide) (by omega) (by omega) dX8_holderOf_28 ?_
        refine w_iload_n F dX8_holderOf_29 rfl ?_
        refine w_icmp_ne F (tgt := 43) dX8_holderOf_30 (by decide) (by first | assumption | exact inR0 | exact (hR _ _ _).1 | (constructor <;> omega)) (by first | assumption | exact inR0 | exact (hR _ _ _).1 | (constructor <;> omega)) (fun h8 => ?_) (fun h8 => ?_)
        · refine w_iload_n F dX8_holderOf_43 rfl ?_
          refine w_istore_n F dX8_holderOf_44 (by decide) rfl (lv' := [(0, _), (1, _), (2, _), (3, _), (4, _)]) rfl ?_
          refine w_iinc F dX8_holderOf_45 rfl (by decide) rfl (lv' := [(0, _), (1, _), (2, _), (3, _), (4, _)]) rfl ?_
          refine w_goto F (tgt := 11) dX8_holderOf_48 (by decide) ?_
          refine ih (k + 1) h (by omega) (by omega) ?_
          have hne : k ≠ i := fun e => by
            subst e
            rw [hi] at z3
            simp at z3
            omega
          rw [h3]
          by_cases e : i < k
          · rw [if_pos e, if_pos (by omega)]
          · rw [if_neg e, if_neg (by omega)]
        · refine w_aload_n F dX8_holderOf_33 rfl rfl ?_
          refine w_get F (by omega) cell_mdO rfl in_X8 17 (by decide) (Or.inl q889) rfl dX8_holderOf_34 ?_
          refine w_iload F dX8_holderOf_37 rfl ?_
          first | refine w_ialdN F (aM17 _) (by omega) (by decide) (by omega) dX8_holderOf_39 ?_ | refine w_iald F (aM17 _) (by omega) (by decide) (by omega) (by omega) dX8_holderOf_39 ?_
          refine w_top z2 ?_
          refine w_goto F (tgt := 44) dX8_holderOf_40 (by decide) ?_
          refine w_istore_n F dX8_holderOf_44 (by decide) rfl (lv' := [(0, _), (1, _), (2, _), (3, _), (4, _)]) rfl ?_
          refine w_iinc F dX8_holderOf_45 rfl (by decide) rfl (lv' := [(0, _), (1, _), (2, _), (3, _), (4, _)]) rfl ?_
          refine w_goto F (tgt := 11) dX8_holderOf_48 (by decide) ?_
          rw [h8] at z3
          have e := cnt_uq hcu hi z3
          subst e
          rw [hy] at hz
          have : y = z := by simpa using hz
          subst this
          exact ih (i + 1) y (by omega) (by omega) (by rw [if_pos (by omega)])
  exact loop (ns.length + 1) 0 (-4) (by omega) (by omega) (by simp)
end M17
