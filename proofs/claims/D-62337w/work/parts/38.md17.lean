theorem insC_perm (a : En) : ∀ l : List En, (insC a l).Perm (a :: l)
  | [] => List.Perm.refl _
  | b :: l => by
    unfold insC
    split
    · exact List.Perm.refl _
    · exact ((insC_perm a l).cons b).trans (List.Perm.swap a b l)
theorem srtC_perm : ∀ l : List En, (srtC l).Perm l
  | [] => List.Perm.refl _
  | a :: l => (insC_perm a (srtC l)).trans ((srtC_perm l).cons a)
def clt (x12 : Int) (M18 : zHp) : Option (Int × zHp) := f_Md_collect_L54 (fun M45 =>
        (pI M45 8 30 8 0).bind fun M46 =>
        (gI M46 8 30 6).bind fun x48 =>
        (pI M46 8 30 6 (zadd x48 1)).bind fun M50 =>
        some (x12, M50)) 30 zfu x12 M18
theorem clt_eq (M : zHp) : f_Md_collect 30 M = if zk M 30 = 8 then
    (gI M 8 30 6).bind fun x1 =>
    (gI M 8 30 7).bind fun x3 =>
    if zeq x1 x3 then
      some ((-2), M)
    else
    (f_Md_flushAll 30 M).bind fun M7 =>
    (gI M7 8 30 6).bind fun x8 =>
    zb2 (f_Md_liveIn 30 x8 M7) fun x12 M11 =>
    (gI M11 8 30 7).bind fun x13 =>
    (gI M11 8 30 6).bind fun x15 =>
    zb2 (f_Md_headsFor 30 x12 M11) fun x19 M18 =>
    if zle (zadd (zadd (zsub x13 x15) 1) x19) 8 then clt x12 M18
    else
    some ((-3), M18)
  else none := rfl
section MD20
variable {M Q : zHp} {N : Nat} {time sn : Int} {bt : List Bt} {seen : List Int} {pr tl : Int} {us vs : List Int} {u : Int} {un : List Un} {mem : List En} {l0 : List (List En)} {l1 l2 : List En}
/-- entries have moved -/
theorem mB.mv {f : En → En} (hf : ∀ e, eK (f e) = eK e ∧ eS (f e) = eS e) (hB : mB N sn mem l0 l1 l2 M) (hq : ∀ q j, 31 ≤ q → q ≤ 37 → iF Q q j = iF M q j) (h1 : iF Q 30 1 = iF M 30 1) (h2 : iF Q 30 2 = iF M 30 2) (h3 : iF Q 30 3 = iF M 30 3) (hm : ∀ e, e < N → iF M 36 e ≠ 9 → me Q e = f (me M e)) : mB N sn (mem.map f) (l0.map (List.map f)) (l1.map f) (l2.map f) Q := by
  obtain ⟨b1, b2, b3, b4, b5, b6, b7, b8, b9, b10, b11, b12, b13, b14, b15⟩ := hB
  have h36 : ∀ e, iF Q 36 e = iF M 36 e := fun e => hq 36 e (by decide) (by decide)
  have hen : ∀ p q : Nat → Bool, (∀ e, e < N → p e = q e) → (∀ e, e < N → q e = true → iF M 36 e ≠ 9) → ent Q N p = (ent M N q).map f := by
    intro p q hpq h9
    unfold ent
    rw [List.map_map, List.filter_congr (fun x hx => hpq x (List.mem_range.mp hx))]
    apply List.map_congr_left
    intro x hx
    obtain ⟨q1, q2⟩ := List.mem_filter.mp hx
    exact hm x (List.mem_range.mp q1) (h9 x (List.mem_range.mp q1) q2)
  have hlv : ∀ k : Int, k ≠ 9 → lvE Q N k = (lvE M N k).map f := fun k hk => hen _ _ (fun e _ => by rw [h36]) (fun e _ he => by
    have : iF M 36 e = k := by simpa using he
    omega)
  have hbf : ∀ e g, e < N → g < N → iF M 36 e ≠ 9 → iF M 36 g ≠ 9 → befB (me Q e) (me Q g) = befB (me M e) (me M g) := fun e g he hg h1 h2 => by
    rw [hm e he h1, hm g hg h2]
    unfold befB
    rw [(hf (me M e)).1, (hf (me M g)).1, (hf (me M e)).2, (hf (me M g)).2]
  refine ⟨h1.trans b1, b2, b3, b4, ?_, ?_, ?_, ?_, ?_, ?_, ?_, ?_, ?_, ?_, ?_⟩
  · intro e he
    rw [hq 34 e (by decide) (by decide), hq 35 e (by decide) (by decide), hq 32 e (by decide) (by decide), hq 31 e (by decide) (by decide), h36]
    exact b5 e he
  · intro e g he hg
    rw [h36, h36, hq 32 e (by decide) (by decide), hq 32 g (by decide) (by decide)]
    exact b6 e g he hg
  · rw [hlv _ (by decide)]; exact b7.map f
  · rw [hlv _ (by decide)]; exact b8.map f
  · rw [hlv _ (by decide)]; exact b9.map f
  · rw [h3, List.length_map]; exact b10
  · intro k t ht
    rw [List.getElem?_map] at ht
    cases hk : l0[k]? with
    | none => rw [hk] at ht; cases ht
    | some t0 =>
      rw [hk] at ht
      have ht' : t = t0.map f := (Option.some.inj ht).symm
      rw [ht']
      have : tb0 Q N k = (tb0 M N k).map f := hen _ _ (fun e _ => by rw [h36, h2, hq 37 e (by decide) (by decide)]) (fun e _ he => by
        have h0 : (iF M 36 e == 0) = true := (Bool.and_eq_true _ _ ▸ he).1
        have : iF M 36 e = 0 := by simpa using h0
        omega)
      rw [this]
      exact (b11 k t0 hk).map f
  · intro e he h0
    rw [h36] at h0
    rw [h2, hq 37 e (by decide) (by decide), List.length_map]
    exact b12 e he h0
  · intro e he h0
    rw [h36] at h0
    rw [hq 37 e (by decide) (by decide), b13 e he h0]
    congr 1
    unfold rnk
    apply cnt_cg
    intro g hg
    rw [h36, h36]
    by_cases c : iF M 36 g = iF M 36 e
    · rw [hbf g e hg he (by omega) (by omega)]
    · simp [c]
  · rw [h2]; exact b14
  · rw [h2, List.length_map]; exact b15
/-- collect, behind the flush -/
theorem m_collect (hA : mA time sn bt seen pr tl (vs ++ [u]) un M) (hB : mB N sn mem l0 l1 l2 M) (h4 : l0.length ≤ 4) (htl : 0 ≤ tl ∧ tl ≤ 90000) (hv : vs.length ≤ 7) (hu : 0 ≤ u ∧ u ≤ 16)
    (hR : srdC (srtC (live tl (allE [] (fl0 time seen mem l0 l1 l2).1 (fl0 time seen mem l0 l1 l2).2.1 (fl0 time seen mem l0 l1 l2).2.2)))) (hR2 : (live tl (allE [] (fl0 time seen mem l0 l1 l2).1 (fl0 time seen mem l0 l1 l2).2.1 (fl0 time seen mem l0 l1 l2).2.2)).length ≤ 100) :
    (vs = [] → f_Md_collect 30 M = some (-2, M)) ∧
    (vs ≠ [] → ∃ F, mFr M F ∧ mA time sn bt seen pr tl (vs ++ [u]) (if mem.isEmpty then un else []) F ∧ mB N sn [] (fl0 time seen mem l0 l1 l2).1 (fl0 time seen mem l0 l1 l2).2.1 (fl0 time seen mem l0 l1 l2).2.2 F ∧
      ((8 < ((vs.length + 1 : Nat) : Int) + hds u (live tl (allE [] (fl0 time seen mem l0 l1 l2).1 (fl0 time seen mem l0 l1 l2).2.1 (fl0 time seen mem l0 l1 l2).2.2)).length → f_Md_collect 30 M = some (-3, F)) ∧
       (¬ 8 < ((vs.length + 1 : Nat) : Int) + hds u (live tl (allE [] (fl0 time seen mem l0 l1 l2).1 (fl0 time seen mem l0 l1 l2).2.1 (fl0 time seen mem l0 l1 l2).2.2)).length →
        ∃ Q, f_Md_collect 30 M = some (((live tl (allE [] (fl0 time seen mem l0 l1 l2).1 (fl0 time seen mem l0 l1 l2).2.1 (fl0 time seen mem l0 l1 l2).2.2)).length : Int), Q) ∧ mFr M Q ∧
          mA time sn bt seen pr (tl + 1) ((mov tl (vs ++ [u]) (srtC (live tl (allE [] (fl0 time seen mem l0 l1 l2).1 (fl0 time seen mem l0 l1 l2).2.1 (fl0 time seen mem l0 l1 l2).2.2)))).1.drop 1) [] Q ∧
          mB N sn [] ((fl0 time seen mem l0 l1 l2).1.map (List.map (rel tl (mov tl (vs ++ [u]) (srtC (live tl (allE [] (fl0 time seen mem l0 l1 l2).1 (fl0 time seen mem l0 l1 l2).2.1 (fl0 time seen mem l0 l1 l2).2.2)))).2))) ((fl0 time seen mem l0 l1 l2).2.1.map (rel tl (mov tl (vs ++ [u]) (srtC (live tl (allE [] (fl0 time seen mem l0 l1 l2).1 (fl0 time seen mem l0 l1 l2).2.1 (fl0 time seen mem l0 l1 l2).2.2)))).2)) ((fl0 time seen mem l0 l1 l2).2.2.map (rel tl (mov tl (vs ++ [u]) (srtC (live tl (allE [] (fl0 time seen mem l0 l1 l2).1 (fl0 time seen mem l0 l1 l2).2.1 (fl0 time seen mem l0 l1 l2).2.2)))).2)) Q))) := by
  obtain ⟨F, f1, f2, f3, f4⟩ := m_flush hA hB h4
  generalize hL0 : (fl0 time seen mem l0 l1 l2).1 = L0 at hR hR2 f4 ⊢
  generalize hL1 : (fl0 time seen mem l0 l1 l2).2.1 = L1 at hR hR2 f4 ⊢
  generalize hL2 : (fl0 time seen mem l0 l1 l2).2.2 = L2 at hR hR2 f4 ⊢
  obtain ⟨h, hG, a1, a2, a3, a4, a5, a6, a7⟩ := mA_iff.mp hA
  obtain ⟨u7, -⟩ := a6.last
  have e1 := zeq_iff (x := tl) (y := tl + vs.length) (by unfold rg; omega) (by unfold rg; omega)
  refine ⟨?_, ?_⟩
  · intro hv0
    subst hv0
    unfold f_Md_collect
    have : zeq tl (tl + (([] : List Int).length : Nat)) := e1.mpr (by simp)
    simp only [↓gI_b, ↓gR_b, ↓pI_b, ↓pZ_b, ↓pR_b, ↓ldI_b, ↓ldR_b, ↓stI_b, ↓stZ_b, ↓stR_b, zk_eq, sh_wI, sh_wR, rF_wI, iF_wR, ms30 h, true_and, and_true, and_self, ↓reduceIte, Int.toNat_natCast, Int.natCast_nonneg, Nat.reduceLT, Nat.reduceLeDiff, Nat.reduceEqDiff, ne_eq, not_false_eq_true, Nat.reduceAdd, reduceCtorEq, Int.reduceLT, Int.reduceLE, Int.reduceToNat, a6.1, u7, eq_true this]
  · intro hv0
    have hvl : 1 ≤ vs.length := by
      cases vs with
      | nil => exact absurd rfl hv0
      | cons _ _ => simp
    have g1 : ¬ zeq tl (tl + (vs.length : Int)) := fun q => by have := e1.mp q; omega
    refine ⟨F, f2, f3, f4, ?_⟩
    have hF := f3.1
    obtain ⟨_, hGF, c1, c2, c3, c4, c5, c6, c7⟩ := mA_iff.mp f3
    obtain ⟨u7F, -⟩ := c6.last
    have hli := m_liveIn f3 f4 (g := tl) (by unfold rg; omega)
    generalize hLV : live tl (allE [] L0 L1 L2) = LV at hR hR2 hli ⊢
    have hhd := m_headsFor f3 (by omega) hu (n := (LV.length : Int)) (by omega)
    have hds0 : 0 ≤ hds u LV.length ∧ hds u LV.length ≤ 20 := by
      have hb : ∀ (f : Nat) (x y : Int), 0 ≤ hdsN f x y ∧ hdsN f x y ≤ f := by
        intro f
        induction f with
        | zero => intro x y; exact ⟨Int.le_refl _, Int.le_refl _⟩
        | succ f ihf =>
          intro x y
          unfold hdsN
          split
          · omega
          · dsimp only
            generalize (if y < 6 then y else 6) = z
            split
            · have := ihf (1 + z) (y - 6)
              omega
            · have := ihf (x + (1 + z)) (y - 6)
              omega
      exact hb 20 u LV.length
    have e2 : zsub (tl + vs.length) tl = vs.length := by rw [zsub_eq (by omega) (by omega)]; omega
    have e3 : zadd (vs.length : Int) 1 = vs.length + 1 := zadd_eq (by omega) (by omega)
    have e4 : zadd ((vs.length : Int) + 1) (hds u LV.length) = vs.length + 1 + hds u LV.length := zadd_eq (by omega) (by omega)
    have e5 := zle_iff (x := (vs.length : Int) + 1 + hds u LV.length) (y := 8) (by unfold rg; omega) (by unfold rg; omega)
    refine ⟨?_, ?_⟩
    · intro hc
      unfold f_Md_collect
      have g2 : ¬ ((vs.length : Int) + 1 + hds u LV.length ≤ 8) := by omega
      simp only [↓gI_b, ↓gR_b, ↓pI_b, ↓pZ_b, ↓pR_b, ↓ldI_b, ↓ldR_b, ↓stI_b, ↓stZ_b, ↓stR_b, zk_eq, sh_wI, sh_wR, rF_wI, iF_wR, ms30 h, ms30 hF, true_and, and_true, and_self, ↓reduceIte, Int.toNat_natCast, Int.natCast_nonneg, Nat.reduceLT, Nat.reduceLeDiff, Nat.reduceEqDiff, ne_eq, not_false_eq_true, Nat.reduceAdd, reduceCtorEq, Int.reduceLT, Int.reduceLE, Int.reduceToNat, a6.1, u7, g1, ↓bnd_of f1, c6.1, ↓zb2_of hli, u7F, ↓zb2_of hhd, e2, e3, e4, e5, g2]
    · intro hc
      have g2 : (vs.length : Int) + 1 + hds u LV.length ≤ 8 := by omega
      have hlen : (srtC LV).length = LV.length := (srtC_perm LV).length_eq
      obtain ⟨Q, q1, q2, q3, q4, q5, q6, q7⟩ := ml_coll2 (N := N) (tl := tl) htl f4.2.1 (fun M45 => (pI M45 8 30 8 0).bind fun M46 => (gI M46 8 30 6).bind fun x48 => (pI M46 8 30 6 (zadd x48 1)).bind fun M50 => some ((LV.length : Int), M50)) 20 zfu (srtC LV) vs u F (by omega) (by omega) (by decide) hvl hv hu.1 hu.2 (by rw [hlen]; have : hds u LV.length = hdsN 20 u LV.length := rfl; omega) f3 f4.1 (fun e he => (f4.2.2.2.2.1 e he).1) f4.2.2.2.2.2.1 hR (by rw [← hLV]; exact ((srtC_perm _).trans (f4.live tl)))
      rw [hlen] at q1
      change mA time sn bt seen pr tl (mov tl (vs ++ [u]) (srtC LV)).1 _ Q at q3
      change ∀ e, e < N → iF F 36 e ≠ 9 → me Q e = rel tl (mov tl (vs ++ [u]) (srtC LV)).2 (me F e) at q5
      change 2 ≤ (mov tl (vs ++ [u]) (srtC LV)).1.length at q6
      change (mov tl (vs ++ [u]) (srtC LV)).1.length ≤ 8 at q7
      generalize hmv : mov tl (vs ++ [u]) (srtC LV) = mv at q3 q5 q6 q7 ⊢
      obtain ⟨t, tG, d1, d2, d3, d4, d5, d6, d7⟩ := mA_iff.mp q3
      have z6 : zadd tl 1 = tl + 1 := zadd_eq (by omega) (by omega)
      generalize hW : wI (wI Q 30 8 0) 30 6 (tl + 1) = W
      have hWF : mFr Q W := by rw [← hW]; exact (mFr.wI Q (by decide) (by decide)).tr (mFr.wI _ (by decide) (by decide))
      have hI : ∀ q j, ¬ (q = 30 ∧ (j = 8 ∨ j = 6)) → iF W q j = iF Q q j := fun q j hh => by
        rw [← hW, iF_wI, if_neg (fun c => hh ⟨c.1, Or.inr c.2.1⟩), iF_wI, if_neg (fun c => hh ⟨c.1, Or.inl c.2.1⟩)]
      have w6 : iF W 30 6 = tl + 1 := by rw [← hW]; exact wI30s (mSh_wI t) (by decide)
      have w8 : iF W 30 8 = 0 := by rw [← hW, wI30 (by decide)]; exact wI30s t (by decide)
      refine ⟨W, ?_, (f2.tr q2).tr hWF, mA_iff.mpr ⟨hWF.mSh t, ?_, (hI 30 0 (by decide)).trans d1, (hI 30 4 (by decide)).trans d2, (hI 30 9 (by decide)).trans d3, d4.cg (hI 30 5 (by decide)) (fun j => hI 42 j (by simp)) (fun j => hI 43 j (by simp)) (fun j => hI 44 j (by simp)), d5.cg (fun j => hI 45 j (by simp)) (fun j => hI 46 j (by simp)), ⟨w6, ?_, ?_⟩, w8, fun j x hx => by simp at hx⟩, ?_⟩
      · rw [clt_eq]
        have q1' : clt (LV.length : Int) F = some ((LV.length : Int), W) := by
          refine q1.trans ?_
          have w6' : iF (wI Q 30 8 0) 30 6 = tl := by rw [wI30 (by decide)]; exact d6.1
          simp only [↓gI_b, ↓gR_b, ↓pI_b, ↓pZ_b, ↓pR_b, ↓ldI_b, ↓ldR_b, ↓stI_b, ↓stZ_b, ↓stR_b, zk_eq, sh_wI, sh_wR, rF_wI, iF_wR, ms30 t, true_and, and_true, and_self, ↓reduceIte, Int.toNat_natCast, Int.natCast_nonneg, Nat.reduceLT, Nat.reduceLeDiff, Nat.reduceEqDiff, ne_eq, not_false_eq_true, Nat.reduceAdd, reduceCtorEq, Int.reduceLT, Int.reduceLE, Int.reduceToNat, w6', z6, hW]
        simp only [↓gI_b, ↓gR_b, ↓pI_b, ↓pZ_b, ↓pR_b, ↓ldI_b, ↓ldR_b, ↓stI_b, ↓stZ_b, ↓stR_b, zk_eq, sh_wI, sh_wR, rF_wI, iF_wR, ms30 h, ms30 hF, true_and, and_true, and_self, ↓reduceIte, Int.toNat_natCast, Int.natCast_nonneg, Nat.reduceLT, Nat.reduceLeDiff, Nat.reduceEqDiff, ne_eq, not_false_eq_true, Nat.reduceAdd, reduceCtorEq, Int.reduceLT, Int.reduceLE, Int.reduceToNat, a6.1, u7, g1, ↓bnd_of f1, c6.1, ↓zb2_of hli, u7F, ↓zb2_of hhd, e2, e3, e4, e5, g2, q1']
      · rw [← hW]; exact RG_wI (RG_wI tG rg0) (by unfold rg; omega)
      · rw [hI 30 7 (by decide), d6.2.1, List.length_drop]; omega
      · intro k x hx
        rw [hI 47 _ (by simp)]
        rw [List.getElem?_drop] at hx
        have := d6.2.2 (1 + k) x hx
        rw [show tl + 1 + (k : Int) = tl + ((1 + k : Nat) : Int) by omega]
        exact this
      · have := mB.mv (f := rel tl mv.2) (fun e => ⟨(rel_KS e).1, (rel_KS e).2.1⟩) f4 (Q := W) (fun q j h1 h2 => by rw [hI q j (by omega)]; exact q4 q j (by omega) (by omega) (by omega) (by omega)) (by rw [hI 30 1 (by decide)]; exact q4 30 1 (by decide) (by decide) (by decide) (by decide)) (by rw [hI 30 2 (by decide)]; exact q4 30 2 (by decide) (by decide) (by decide) (by decide)) (by rw [hI 30 3 (by decide)]; exact q4 30 3 (by decide) (by decide) (by decide) (by decide)) (fun e he h9 => by
          have : me W e = me Q e := by
            unfold me
            rw [hI 34 _ (by simp), hI 31 _ (by simp), hI 32 _ (by simp), hI 35 _ (by simp), hI 33 _ (by simp), hI 38 _ (by simp), hI 39 _ (by simp)]
          rw [this]
          exact q5 e he h9)
        exact this
end MD20
