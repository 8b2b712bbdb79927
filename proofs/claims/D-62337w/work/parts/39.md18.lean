-- crash in the model
/-- records that can be lost, the last one first -/
def loW : List Un → List Int → Prop
  | [], us => us ≠ []
  | (f, n, b) :: l, us => us ≠ [] ∧ 1 ≤ f ∧ f ≤ 100000 ∧ (b = 0 ∨ b = 1) ∧ 0 ≤ n ∧ n ≤ 100 ∧ (b = 0 → n ≤ lst us) ∧ 0 ≤ lst us ∧ lst us ≤ 100 ∧ loW l (if b = 1 then us.dropLast else us.dropLast ++ [lst us - n])
theorem ne_app {us : List Int} (h : us ≠ []) : ∃ vs u, us = vs ++ [u] := ⟨us.dropLast, us.getLast h, (List.dropLast_concat_getLast h).symm⟩
theorem ml_lose {st : Nat} {tl : Int} (hst : st ≤ 16) (htl : 0 ≤ tl ∧ tl ≤ 90000) (κ : zHp → Option (Int × zHp)) :
    ∀ (L : List Un) (n : Nat) (us : List Int) (sn : Int) (P : zHp), L.length < n → st + L.length ≤ 16 → us.length ≤ 8 → mSh P → RG P → uA tl us P → iF P 30 4 = sn → loW L us → (∀ (k : Nat) r, L.reverse[k]? = some r → r = (iF P 48 (st + k), iF P 49 (st + k), iF P 50 (st + k))) →
      ∃ Q, f_Md_crash_L40 κ 30 (st : Int) n ((st : Int) + L.length - 1) P = κ Q ∧ mFr P Q ∧ RG Q ∧ uA tl (lose L sn us).2 Q ∧ iF Q 30 4 = (lose L sn us).1 ∧ ∀ q j, q ≠ 47 → ¬ (q = 30 ∧ (j = 4 ∨ j = 7)) → iF Q q j = iF P q j := by
  intro L
  induction L with
  | nil =>
    intro n us sn P hn hl hus h hG hU hs hW hr
    obtain ⟨n, rfl⟩ : ∃ k, n = k + 1 := ⟨n - 1, by omega⟩
    unfold f_Md_crash_L40
    have e1 : zlt ((st : Int) + (([] : List Un).length : Nat) - 1) (st : Int) := (zlt_iff (by simp; unfold rg; omega) (rgN (by omega))).mpr (by simp; omega)
    refine ⟨P, ?_, mFr.rf P, hG, hU, hs, fun _ _ _ _ => rfl⟩
    simp only [e1, if_true]
  | cons r L ih =>
    intro n us sn P hn hl hus h hG hU hs hW hr
    obtain ⟨n, rfl⟩ : ∃ k, n = k + 1 := ⟨n - 1, by simp only [List.length_cons] at hn; omega⟩
    obtain ⟨f, c, b⟩ := r
    simp only [List.length_cons] at hn hl
    have hn1 : L.length < n := Nat.lt_of_succ_lt_succ hn
    have hl1 : st + L.length ≤ 16 := Nat.le_of_succ_le hl
    obtain ⟨w1, w2, w3, w4, w5, w6, w7, w8, w9, w10⟩ := hW
    have hi : ((st : Int) + (((f, c, b) :: L).length : Nat) - 1) = ((st + L.length : Nat) : Int) := by simp only [List.length_cons]; omega
    rw [hi]
    have hre := hr L.length (f, c, b) (by rw [List.reverse_cons, List.getElem?_append_right (by simp)]; simp)
    have v48 : iF P 48 (st + L.length) = f := (congrArg (fun q : Un => q.1) hre).symm
    have v49 : iF P 49 (st + L.length) = c := (congrArg (fun q : Un => q.2.1) hre).symm
    have v50 : iF P 50 (st + L.length) = b := (congrArg (fun q : Un => q.2.2) hre).symm
    have e1 : ¬ zlt ((st + L.length : Nat) : Int) (st : Int) := fun q => by have := (zlt_iff (rgN (by omega)) (rgN (by omega))).mp q; omega
    have e2 : ((st + L.length : Nat) : Int) < 4096 := by omega
    have e3 : st + L.length < 16 := by omega
    have e4 : zadd ((st + L.length : Nat) : Int) (-1) = (st : Int) + L.length - 1 := by rw [zadd_eq (by omega) (by omega)]; omega
    have e5 : zsub f 1 = f - 1 := zsub_eq (by omega) (by omega)
    have e6 := zeq_iff (hG 50 (st + L.length)) rg0
    rw [v50] at e6
    obtain ⟨vs, u, rfl⟩ := ne_app w1
    obtain ⟨u7, u47⟩ := hU.last
    rw [lst_app, drop_app] at w10
    rw [lst_app] at w7 w8 w9
    have hvl : vs.length ≤ 7 := by simp at hus; omega
    have m1 : zrem (tl + vs.length) 8 = (tl + vs.length) % 8 := zrem_eq (by unfold rg; omega) (by unfold rg; omega) (by omega) (by omega)
    have m2 : 0 ≤ (tl + vs.length) % 8 := by omega
    have m3 : (tl + vs.length) % 8 < 4096 := by omega
    have m4 : ((tl + vs.length) % 8).toNat < 8 := by omega
    rw [show lose ((f, c, b) :: L) sn (vs ++ [u]) = lose L (f - 1) (if b = 1 then vs else vs ++ [u - c]) by rw [lose, lst_app, drop_app]]
    unfold f_Md_crash_L40
    rcases w4 with hb | hb
    · subst hb
      rw [if_neg (show ¬ ((0 : Int) = 1) by decide)] at w10
      rw [if_neg (show ¬ ((0 : Int) = 1) by decide)]
      have w7 := w7 rfl
      have e7 : zsub u c = u - c := zsub_eq (by omega) (by omega)
      generalize hQ : wI (wI P 47 ((tl + vs.length) % 8).toNat (u - c)) 30 4 (f - 1) = Q
      have hF : mFr P Q := by rw [← hQ]; exact (mFr.wI P (by decide) (by decide)).tr (mFr.wI _ (by decide) (by decide))
      have hGQ : RG Q := by rw [← hQ]; exact RG_wI (RG_wI hG (by unfold rg; omega)) (by unfold rg; omega)
      have hI : ∀ q j, q ≠ 47 → ¬ (q = 30 ∧ j = 4) → iF Q q j = iF P q j := fun q j h1 h2 => by rw [← hQ, iF_wI, if_neg (fun c => h2 ⟨c.1, c.2.1⟩), wIq h1]
      have q47 : ∀ j, iF Q 47 j = if j = ((tl + vs.length) % 8).toNat then u - c else iF P 47 j := fun j => by
        rw [← hQ, wIq (by decide), iF_wI, ms47 h]
        by_cases cc : j = ((tl + vs.length) % 8).toNat
        · rw [if_pos ⟨rfl, cc, m4⟩, if_pos cc]
        · rw [if_neg (fun q => cc q.2.1), if_neg cc]
      have q4 : iF Q 30 4 = f - 1 := by rw [← hQ]; exact wI30s (mSh_wI h) (by decide)
      have hUQ : uA tl (vs ++ [u - c]) Q := by
        refine ⟨(hI 30 6 (by decide) (by decide)).trans hU.1, by rw [hI 30 7 (by decide) (by decide), u7]; simp; omega, fun k x hx => ?_⟩
        rw [q47]
        by_cases hk : k < vs.length
        · rw [List.getElem?_append_left hk] at hx
          have := mod8 (a := tl) (i := (k : Int)) (j := (vs.length : Int)) (by omega) (by omega) (by omega)
          rw [if_neg (by intro q; apply this; omega)]
          exact hU.2.2 k x (by rw [List.getElem?_append_left hk]; exact hx)
        · have hk2 : k = vs.length := by
            have := (List.getElem?_eq_some_iff.mp hx).1
            simp at this
            omega
          subst hk2
          rw [List.getElem?_append_right (Nat.le_refl _)] at hx
          simp at hx
          rw [if_pos rfl]
          exact hx
      obtain ⟨Q2, r1, r2, r3, r4, r5, r6⟩ := ih n (vs ++ [u - c]) (f - 1) Q hn1 hl1 (by rw [List.length_append]; exact Nat.succ_le_succ hvl) (hF.mSh h) hGQ hUQ q4 w10 (fun k r hr2 => by
        rw [hI 48 _ (by decide) (by simp), hI 49 _ (by decide) (by simp), hI 50 _ (by decide) (by simp)]
        exact hr k r (by rw [List.reverse_cons, List.getElem?_append_left (List.getElem?_eq_some_iff.mp hr2).1]; exact hr2))
      refine ⟨Q2, ?_, hF.tr r2, r3, r4, r5, fun q j h1 h2 => (r6 q j h1 h2).trans (hI q j h1 (fun c => h2 ⟨c.1, Or.inl c.2⟩))⟩
      have z0 : zeq 0 0 := rfl
      have w48 : ∀ (A : zHp) (j i : Nat) (y : Int), iF (wI A 47 j y) 48 i = iF A 48 i := fun A j i y => wIq (by decide)
      simp only [↓gI_b, ↓gR_b, ↓pI_b, ↓pZ_b, ↓pR_b, ↓ldI_b, ↓ldR_b, ↓stI_b, ↓stZ_b, ↓stR_b, zk_eq, sh_wI, sh_wR, rF_wI, iF_wR, ms30 h, ms47 h, ms48 h, ms49 h, ms50 h, mr16 h, mr17 h, mr18 h, mr19 h, true_and, and_true, and_self, ↓reduceIte, Int.toNat_natCast, Int.natCast_nonneg, Nat.reduceLT, Nat.reduceLeDiff, Nat.reduceEqDiff, ne_eq, not_false_eq_true, Nat.reduceAdd, reduceCtorEq, Int.reduceLT, Int.reduceLE, Int.reduceToNat, e1, e2, e3, v50, z0, u7, m1, m2, m3, m4, u47, v49, e7, w48, v48, e5, hQ, e4]
      exact r1
    · subst hb
      rw [if_pos (show (1 : Int) = 1 from rfl)] at w10
      rw [if_pos (show (1 : Int) = 1 from rfl)]
      have hvne : vs ≠ [] := by
        cases L with
        | nil => exact w10
        | cons r L => exact w10.1
      have hvl1 : 1 ≤ vs.length := by
        cases vs with
        | nil => exact absurd rfl hvne
        | cons _ _ => simp
      have e7 : zsub (tl + vs.length) 1 = tl + vs.length - 1 := zsub_eq (by omega) (by omega)
      generalize hQ : wI (wI P 30 7 (tl + vs.length - 1)) 30 4 (f - 1) = Q
      have hF : mFr P Q := by rw [← hQ]; exact (mFr.wI P (by decide) (by decide)).tr (mFr.wI _ (by decide) (by decide))
      have hGQ : RG Q := by rw [← hQ]; exact RG_wI (RG_wI hG (by unfold rg; omega)) (by unfold rg; omega)
      have hI : ∀ q j, ¬ (q = 30 ∧ (j = 4 ∨ j = 7)) → iF Q q j = iF P q j := fun q j h2 => by rw [← hQ, iF_wI, if_neg (fun c => h2 ⟨c.1, Or.inl c.2.1⟩), iF_wI, if_neg (fun c => h2 ⟨c.1, Or.inr c.2.1⟩)]
      have q7 : iF Q 30 7 = tl + vs.length - 1 := by rw [← hQ, wI30 (by decide)]; exact wI30s h (by decide)
      have q4 : iF Q 30 4 = f - 1 := by rw [← hQ]; exact wI30s (mSh_wI h) (by decide)
      have hUQ : uA tl vs Q := by
        refine ⟨(hI 30 6 (by decide)).trans hU.1, q7, fun k x hx => ?_⟩
        rw [hI 47 _ (by simp)]
        exact hU.2.2 k x (by rw [List.getElem?_append_left (List.getElem?_eq_some_iff.mp hx).1]; exact hx)
      obtain ⟨Q2, r1, r2, r3, r4, r5, r6⟩ := ih n vs (f - 1) Q hn1 hl1 (Nat.le_succ_of_le hvl) (hF.mSh h) hGQ hUQ q4 w10 (fun k r hr2 => by
        rw [hI 48 _ (by simp), hI 49 _ (by simp), hI 50 _ (by simp)]
        exact hr k r (by rw [List.reverse_cons, List.getElem?_append_left (List.getElem?_eq_some_iff.mp hr2).1]; exact hr2))
      refine ⟨Q2, ?_, hF.tr r2, r3, r4, r5, fun q j h1 h2 => (r6 q j h1 h2).trans (hI q j h2)⟩
      have z1 : ¬ zeq 1 0 := by decide
      have w48 : ∀ (A : zHp) (j i : Nat) (y : Int), iF (wI A 30 j y) 48 i = iF A 48 i := fun A j i y => wIq (by decide)
      simp only [↓gI_b, ↓gR_b, ↓pI_b, ↓pZ_b, ↓pR_b, ↓ldI_b, ↓ldR_b, ↓stI_b, ↓stZ_b, ↓stR_b, zk_eq, sh_wI, sh_wR, rF_wI, iF_wR, ms30 h, ms48 h, ms50 h, mr17 h, mr19 h, true_and, and_true, and_self, ↓reduceIte, Int.toNat_natCast, Int.natCast_nonneg, Nat.reduceLT, Nat.reduceLeDiff, Nat.reduceEqDiff, ne_eq, not_false_eq_true, Nat.reduceAdd, reduceCtorEq, Int.reduceLT, Int.reduceLE, Int.reduceToNat, e1, e2, e3, v50, z1, u7, e7, w48, v48, e5, hQ, e4]
      exact r1
section MD21
variable {M : zHp} {N : Nat} {time sn : Int} {bt : List Bt} {seen : List Int} {pr tl : Int} {us vs : List Int} {u : Int} {un : List Un} {mem : List En} {l0 : List (List En)} {l1 l2 : List En}
set_option maxRecDepth 10000 in
theorem ml_cdrop (h : mSh M) (hG : RG M) (hN : iF M 30 1 = (N : Int)) (hN2 : N ≤ 520)  (κ : zHp → Option (Int × zHp)) : ∀ (d n i : Nat) (P : zHp), i + d = N → d < n → Upd 36 (fun e => if iF M 36 e = -1 ∧ iF M 30 4 < iF M 32 e then 9 else iF M 36 e) i M P → ∃ P2, f_Md_crash_L123 κ 30  n (i : Int) P = κ P2 ∧ Upd 36 (fun e => if iF M 36 e = -1 ∧ iF M 30 4 < iF M 32 e then 9 else iF M 36 e) N M P2 := by
  intro d
  induction d with
  | zero =>
    intro n i P hi hn hU
    obtain ⟨n, rfl⟩ : ∃ k, n = k + 1 := ⟨n - 1, by omega⟩
    unfold f_Md_crash_L123
    have hP := hU.1.mSh h
    have hNP : iF P 30 1 = (N : Int) := (hU.2.2.1 30 1 (by decide)).trans hN
    have e1 : zle (N : Int) (i : Int) := (zle_iff (rgN (by omega)) (rgN (by omega))).mpr (by omega)
    have hiN : i = N := by omega
    subst hiN
    refine ⟨P, ?_, hU⟩
    simp only [↓gI_b, ↓gR_b, ↓pI_b, ↓pZ_b, ↓pR_b, ↓ldI_b, ↓ldR_b, ↓stI_b, ↓stZ_b, ↓stR_b, zk_eq, sh_wI, sh_wR, rF_wI, iF_wR, ms30 hP, ms31 hP, ms32 hP, ms33 hP, ms34 hP, ms35 hP, ms36 hP, ms37 hP, ms38 hP, ms39 hP, ms40 hP, ms41 hP, ms42 hP, ms43 hP, ms44 hP, ms45 hP, ms46 hP, ms47 hP, ms48 hP, ms49 hP, ms50 hP, mr0 hP, mr1 hP, mr2 hP, mr3 hP, mr4 hP, mr5 hP, mr6 hP, mr7 hP, mr8 hP, mr9 hP, mr10 hP, mr11 hP, mr12 hP, mr13 hP, mr14 hP, mr15 hP, mr16 hP, mr17 hP, mr18 hP, mr19 hP, true_and, and_true, and_self, ↓reduceIte, Int.toNat_natCast, Int.natCast_nonneg, Nat.reduceLT, Nat.reduceLeDiff, Nat.reduceEqDiff, ne_eq, not_false_eq_true, Nat.reduceAdd, reduceCtorEq, Int.reduceLT, Int.reduceLE, Int.reduceToNat, hNP, e1]
  | succ d ih =>
    intro n i P hi hn hU
    obtain ⟨n, rfl⟩ : ∃ k, n = k + 1 := ⟨n - 1, by omega⟩
    unfold f_Md_crash_L123
    have hP := hU.1.mSh h
    have hGP := hU.2.1
    have hNP : iF P 30 1 = (N : Int) := (hU.2.2.1 30 1 (by decide)).trans hN
    have e1 : ¬ zle (N : Int) (i : Int) := fun q => by have := (zle_iff (rgN (by omega)) (rgN (by omega))).mp q; omega
    have e2 : (i : Int) < 4096 := by omega
    have e3 : i < 520 := by omega
    have e5 := zaddN (i := i) (by omega)
    have f0 : iF P 36 i = iF M 36 i := hU.here
    have f1 : iF P 32 i = iF M 32 i := hU.at (by decide)
    have f2 : iF P 30 4 = iF M 30 4 := hU.at (by decide)
    have e6 := zeq_iff (hG 36 i) rgm1
    have e7 := zle_iff (hG 32 i) (hG 30 4)
    by_cases c1 : iF M 36 i = -1
    · by_cases c2 : iF M 32 i ≤ iF M 30 4
      · simp only [↓gI_b, ↓gR_b, ↓pI_b, ↓pZ_b, ↓pR_b, ↓ldI_b, ↓ldR_b, ↓stI_b, ↓stZ_b, ↓stR_b, zk_eq, sh_wI, sh_wR, rF_wI, iF_wR, ms30 hP, ms31 hP, ms32 hP, ms33 hP, ms34 hP, ms35 hP, ms36 hP, ms37 hP, ms38 hP, ms39 hP, ms40 hP, ms41 hP, ms42 hP, ms43 hP, ms44 hP, ms45 hP, ms46 hP, ms47 hP, ms48 hP, ms49 hP, ms50 hP, mr0 hP, mr1 hP, mr2 hP, mr3 hP, mr4 hP, mr5 hP, mr6 hP, mr7 hP, mr8 hP, mr9 hP, mr10 hP, mr11 hP, mr12 hP, mr13 hP, mr14 hP, mr15 hP, mr16 hP, mr17 hP, mr18 hP, mr19 hP, true_and, and_true, and_self, ↓reduceIte, Int.toNat_natCast, Int.natCast_nonneg, Nat.reduceLT, Nat.reduceLeDiff, Nat.reduceEqDiff, ne_eq, not_false_eq_true, Nat.reduceAdd, reduceCtorEq, Int.reduceLT, Int.reduceLE, Int.reduceToNat, hNP, e1, e2, e3, e5, f0, f1, f2, e6, e7, eq_true c1, c2]
        exact ih n (i + 1) P (by omega) (by omega) (hU.sk (by rw [if_neg (by omega)]))
      · simp only [↓gI_b, ↓gR_b, ↓pI_b, ↓pZ_b, ↓pR_b, ↓ldI_b, ↓ldR_b, ↓stI_b, ↓stZ_b, ↓stR_b, zk_eq, sh_wI, sh_wR, rF_wI, iF_wR, ms30 hP, ms31 hP, ms32 hP, ms33 hP, ms34 hP, ms35 hP, ms36 hP, ms37 hP, ms38 hP, ms39 hP, ms40 hP, ms41 hP, ms42 hP, ms43 hP, ms44 hP, ms45 hP, ms46 hP, ms47 hP, ms48 hP, ms49 hP, ms50 hP, mr0 hP, mr1 hP, mr2 hP, mr3 hP, mr4 hP, mr5 hP, mr6 hP, mr7 hP, mr8 hP, mr9 hP, mr10 hP, mr11 hP, mr12 hP, mr13 hP, mr14 hP, mr15 hP, mr16 hP, mr17 hP, mr18 hP, mr19 hP, true_and, and_true, and_self, ↓reduceIte, Int.toNat_natCast, Int.natCast_nonneg, Nat.reduceLT, Nat.reduceLeDiff, Nat.reduceEqDiff, ne_eq, not_false_eq_true, Nat.reduceAdd, reduceCtorEq, Int.reduceLT, Int.reduceLE, Int.reduceToNat, hNP, e1, e2, e3, e5, f0, f1, f2, e6, e7, eq_true c1, c2]
        exact ih n (i + 1) _ (by omega) (by omega) (hU.st (by decide) (by decide) (by rw [ms36 h]; exact e3) (by rw [if_pos (by omega)]) rg9)
    · simp only [↓gI_b, ↓gR_b, ↓pI_b, ↓pZ_b, ↓pR_b, ↓ldI_b, ↓ldR_b, ↓stI_b, ↓stZ_b, ↓stR_b, zk_eq, sh_wI, sh_wR, rF_wI, iF_wR, ms30 hP, ms31 hP, ms32 hP, ms33 hP, ms34 hP, ms35 hP, ms36 hP, ms37 hP, ms38 hP, ms39 hP, ms40 hP, ms41 hP, ms42 hP, ms43 hP, ms44 hP, ms45 hP, ms46 hP, ms47 hP, ms48 hP, ms49 hP, ms50 hP, mr0 hP, mr1 hP, mr2 hP, mr3 hP, mr4 hP, mr5 hP, mr6 hP, mr7 hP, mr8 hP, mr9 hP, mr10 hP, mr11 hP, mr12 hP, mr13 hP, mr14 hP, mr15 hP, mr16 hP, mr17 hP, mr18 hP, mr19 hP, true_and, and_true, and_self, ↓reduceIte, Int.toNat_natCast, Int.natCast_nonneg, Nat.reduceLT, Nat.reduceLeDiff, Nat.reduceEqDiff, ne_eq, not_false_eq_true, Nat.reduceAdd, reduceCtorEq, Int.reduceLT, Int.reduceLE, Int.reduceToNat, hNP, e1, e2, e3, e5, f0, f1, f2, e6, e7, c1]
      exact ih n (i + 1) P (by omega) (by omega) (hU.sk (by rw [if_neg (fun q => c1 q.1)]))
theorem ml_clr (h : mSh M) (hG : RG M) (κ : zHp → Option (Int × zHp)) (n : Nat) : ∃ Q, f_Md_crash_L185 κ 30 (n + 4) 0 M = κ Q ∧ mFr M Q ∧ RG Q ∧ (∀ q j, q ≠ 45 → iF Q q j = iF M q j) ∧ iF Q 45 0 = 0 ∧ iF Q 45 1 = 0 ∧ iF Q 45 2 = 0 := by
  have step : ∀ (P : zHp) (s m : Nat), mSh P → s < 3 → f_Md_crash_L185 κ 30 (m + 1) (s : Int) P = f_Md_crash_L185 κ 30 m ((s + 1 : Nat) : Int) (wI P 45 s 0) := by
    intro P s m hP hs
    conv => lhs; unfold f_Md_crash_L185
    have e1 : ¬ zle 3 (s : Int) := fun q => by have := (zle_iff (by unfold rg; omega) (rgN (by omega))).mp q; omega
    have e2 : (s : Int) < 4096 := by omega
    have e5 := zaddN (i := s) (by omega)
    simp only [↓gI_b, ↓gR_b, ↓pI_b, ↓pZ_b, ↓pR_b, ↓ldI_b, ↓ldR_b, ↓stI_b, ↓stZ_b, ↓stR_b, zk_eq, sh_wI, sh_wR, rF_wI, iF_wR, ms30 hP, ms45 hP, mr14 hP, true_and, and_true, and_self, ↓reduceIte, Int.toNat_natCast, Int.natCast_nonneg, Nat.reduceLT, Nat.reduceLeDiff, Nat.reduceEqDiff, ne_eq, not_false_eq_true, Nat.reduceAdd, reduceCtorEq, Int.reduceLT, Int.reduceLE, Int.reduceToNat, e1, e2, hs, true_or, e5]
  have s0 := step M 0 (n + 3) h (by decide)
  have s1 := step (wI M 45 0 0) 1 (n + 2) (mSh_wI h) (by decide)
  have s2 := step (wI (wI M 45 0 0) 45 1 0) 2 (n + 1) (mSh_wI (mSh_wI h)) (by decide)
  have s3 : f_Md_crash_L185 κ 30 (n + 1) ((3 : Nat) : Int) (wI (wI (wI M 45 0 0) 45 1 0) 45 2 0) = κ (wI (wI (wI M 45 0 0) 45 1 0) 45 2 0) := by
    unfold f_Md_crash_L185
    have e1 : zle 3 ((3 : Nat) : Int) := by decide
    simp only [e1, if_true]
  refine ⟨wI (wI (wI M 45 0 0) 45 1 0) 45 2 0, s0.trans (s1.trans (s2.trans s3)), ((mFr.wI M (by decide) (by decide)).tr (mFr.wI _ (by decide) (by decide))).tr (mFr.wI _ (by decide) (by decide)), RG_wI (RG_wI (RG_wI hG rg0) rg0) rg0, fun q j hq => by rw [wIq hq, wIq hq, wIq hq], ?_, ?_, ?_⟩
  · rw [iF_wI, if_neg (by omega), iF_wI, if_neg (by omega), iF_wI, ms45 h, if_pos (by decide)]
  · rw [iF_wI, if_neg (by omega), iF_wI, sh_wI, ms45 h, if_pos (by decide)]
  · rw [iF_wI, sh_wI, sh_wI, ms45 h, if_pos (by decide)]
/-- the memtable without what is lost -/
theorem mB.cut {Q : zHp} {s2 : Int} (hB : mB N sn mem l0 l1 l2 M) (hs : 0 ≤ s2 ∧ s2 ≤ sn) (hlow : ∀ x ∈ l0.flatten ++ (l1 ++ l2), eS x ≤ s2) (hq : ∀ q j, 31 ≤ q → q ≤ 39 → q ≠ 36 → iF Q q j = iF M q j) (h1 : iF Q 30 1 = iF M 30 1) (h2 : iF Q 30 2 = iF M 30 2) (h3 : iF Q 30 3 = iF M 30 3) (h36 : ∀ e, e < N → iF Q 36 e = if iF M 36 e = -1 ∧ s2 < iF M 32 e then 9 else iF M 36 e) : mB N s2 (mem.filter (fun e => decide (eS e ≤ s2))) l0 l1 l2 Q := by
  have hl0 := hB.l0
  obtain ⟨b1, b2, b3, b4, b5, b6, b7, b8, b9, b10, b11, b12, b13, b14, b15⟩ := hB
  have hme : ∀ e, me Q e = me M e := fun e => by
    unfold me
    rw [hq 34 _ (by decide) (by decide) (by decide), hq 31 _ (by decide) (by decide) (by decide), hq 32 _ (by decide) (by decide) (by decide), hq 35 _ (by decide) (by decide) (by decide), hq 33 _ (by decide) (by decide) (by decide), hq 38 _ (by decide) (by decide) (by decide), hq 39 _ (by decide) (by decide) (by decide)]
  have hlv : ∀ k : Int, k ≠ 9 → k ≠ -1 → lvE Q N k = lvE M N k := fun k h9 hm => ent_cg (fun e he => by
    rw [h36 e he]
    by_cases c : iF M 36 e = -1 ∧ s2 < iF M 32 e
    · rw [if_pos c]
      have e1 : ((9 : Int) == k) = false := by simpa using fun q : (9 : Int) = k => h9 q.symm
      have e2 : (iF M 36 e == k) = false := by
        have : iF M 36 e ≠ k := by omega
        simpa using this
      rw [e1, e2]
    · rw [if_neg c]) (fun e _ _ => hme e)
  have hin : ∀ e, e < N → iF M 36 e = 0 ∨ iF M 36 e = 1 ∨ iF M 36 e = 2 → iF M 32 e ≤ s2 := by
    intro e he hc
    have : me M e ∈ l0.flatten ++ (l1 ++ l2) := by
      rcases hc with hc | hc | hc
      · exact List.mem_append_left _ (hl0.mem_iff.mpr (mem_ent.mpr ⟨e, he, by simp [hc], rfl⟩))
      · exact List.mem_append_right _ (List.mem_append_left _ (b8.mem_iff.mpr (mem_ent.mpr ⟨e, he, by simp [hc], rfl⟩)))
      · exact List.mem_append_right _ (List.mem_append_right _ (b9.mem_iff.mpr (mem_ent.mpr ⟨e, he, by simp [hc], rfl⟩)))
    have := hlow _ this
    rw [eS_me] at this
    exact this
  refine ⟨h1.trans b1, b2, hs.1, by omega, ?_, ?_, ?_, ?_, ?_, h3.trans b10, ?_, ?_, ?_, ?_, ?_⟩
  · intro e he
    obtain ⟨w1, w2, w3, w4, w5, w6⟩ := b5 e he
    rw [hq 34 e (by decide) (by decide) (by decide), hq 35 e (by decide) (by decide) (by decide), hq 32 e (by decide) (by decide) (by decide), hq 31 e (by decide) (by decide) (by decide), h36 e he]
    refine ⟨w1, w2, w3, w4, w5, ?_⟩
    by_cases c : iF M 36 e = -1 ∧ s2 < iF M 32 e
    · rw [if_pos c]; exact Or.inl rfl
    · rw [if_neg c]
      rcases w6 with q | ⟨-, q⟩
      · exact Or.inl q
      · refine Or.inr ⟨?_, q⟩
        rcases q with q | q
        · rcases Int.lt_or_le s2 (iF M 32 e) with r | r
          · exact absurd ⟨q, r⟩ c
          · exact r
        · exact hin e he q
  · have key : ∀ e, e < N → iF Q 36 e ≠ 9 → iF M 36 e ≠ 9 := by
      intro e he hh
      rw [h36 e he] at hh
      by_cases c : iF M 36 e = -1 ∧ s2 < iF M 32 e
      · omega
      · rw [if_neg c] at hh; exact hh
    intro e f he hf g1 g2 g3
    rw [hq 32 e (by decide) (by decide) (by decide), hq 32 f (by decide) (by decide) (by decide)] at g3
    exact b6 e f he hf (key e he g1) (key f hf g2) g3
  · have hp := b7.filter (fun e => decide (eS e ≤ s2))
    refine hp.trans (List.Perm.of_eq ?_)
    unfold lvE
    rw [ent_filter]
    refine ent_cg (fun e he => ?_) (fun e _ _ => (hme e).symm)
    rw [h36 e he, eS_me]
    by_cases c : iF M 36 e = -1
    · by_cases c2 : s2 < iF M 32 e
      · have : ¬ iF M 32 e ≤ s2 := by omega
        rw [if_pos ⟨c, c2⟩]
        simp [this]
      · have : iF M 32 e ≤ s2 := by omega
        rw [if_neg (fun q => c2 q.2)]
        simp [c, this]
    · rw [if_neg (fun q => c q.1)]
      have : (iF M 36 e == -1) = false := by simpa using c
      rw [this]; rfl
  · rw [hlv _ (by decide) (by decide)]; exact b8
  · rw [hlv _ (by decide) (by decide)]; exact b9
  · intro k t ht
    have : tb0 Q N k = tb0 M N k := by
      unfold tb0
      refine ent_cg (fun e he => ?_) (fun e _ _ => hme e)
      rw [h36 e he, h2, hq 37 e (by decide) (by decide) (by decide)]
      by_cases c : iF M 36 e = -1 ∧ s2 < iF M 32 e
      · rw [if_pos c]
        have : (iF M 36 e == 0) = false := by rw [c.1]; rfl
        rw [this]; rfl
      · rw [if_neg c]
    rw [this]
    exact b11 k t ht
  · intro e he h0
    rw [h36 e he] at h0
    rw [h2, hq 37 e (by decide) (by decide) (by decide)]
    by_cases c : iF M 36 e = -1 ∧ s2 < iF M 32 e
    · rw [if_pos c] at h0; omega
    · rw [if_neg c] at h0; exact b12 e he h0
  · intro e he h0
    have h0' : iF M 36 e = 1 ∨ iF M 36 e = 2 := by
      rw [h36 e he] at h0
      by_cases c : iF M 36 e = -1 ∧ s2 < iF M 32 e
      · rw [if_pos c] at h0; omega
      · rw [if_neg c] at h0; exact h0
    have h6 : iF Q 36 e = iF M 36 e := by rw [h36 e he, if_neg (by omega)]
    rw [hq 37 e (by decide) (by decide) (by decide), b13 e he h0']
    congr 1
    unfold rnk
    apply cnt_cg
    intro g hg
    rw [h6, h36 g hg, hme, hme]
    by_cases c : iF M 36 g = -1 ∧ s2 < iF M 32 g
    · rw [if_pos c]
      have e1 : ¬ ((9 : Int) = iF M 36 e) := by omega
      have e2 : ¬ (iF M 36 g = iF M 36 e) := by omega
      simp [e1, e2]
    · rw [if_neg c]
  · rw [h2]; exact b14
  · rw [h2]
    have := List.length_filter_le (fun e => decide (eS e ≤ s2)) mem
    omega
/-- what is left of unsynced records -/
def stay (un : List Un) (keep : Int) : Int := if keep < 0 then 0 else if (un.length : Int) < keep then un.length else keep
def crt (st res : Int) (v : Int) (M : zHp) : Option (Int × zHp) := f_Md_crash_L40 (fun M47 =>
          f_Md_crash_L123 (fun M67 =>
            (pI M67 8 30 8 0).bind fun M68 =>
            (pI M68 8 30 5 0).bind fun M70 =>
            f_Md_crash_L185 (fun M77 =>
              some (res, M77)) 30 zfu 0 M70) 30 zfu 0 M47) 30 st zfu v M
theorem crt_eq (a1 : Int) (M : zHp) : f_Md_crash 30 a1 M = if zk M 30 = 8 then
    if zle 0 a1 then
      (gI M 8 30 8).bind fun x2 =>
      if zle a1 x2 then
        (gI M 8 30 8).bind fun x5 =>
        (gI M 8 30 8).bind fun x7 => crt a1 (zsub x5 a1) (zsub x7 1) M
      else
      (gI M 8 30 8).bind fun x78 =>
      (gI M 8 30 8).bind fun x80 =>
      (gI M 8 30 8).bind fun x82 => crt x78 (zsub x80 x78) (zsub x82 1) M
    else
    (gI M 8 30 8).bind fun x91 =>
    (gI M 8 30 8).bind fun x93 => crt 0 (zsub x91 0) (zsub x93 1) M
  else none := rfl
theorem m_crash (hA : mA time sn bt seen pr tl us un M) (hB : mB N sn mem l0 l1 l2 M) {keep : Int} (hk : rg keep) (htl : 0 ≤ tl ∧ tl ≤ 90000) (hus : us.length ≤ 8) (hun : un.length ≤ 16) (hW : loW (un.drop (stay un keep).toNat).reverse us) (hs2 : 0 ≤ (lose (un.drop (stay un keep).toNat).reverse sn us).1 ∧ (lose (un.drop (stay un keep).toNat).reverse sn us).1 ≤ sn) (hlow : ∀ x ∈ l0.flatten ++ (l1 ++ l2), eS x ≤ (lose (un.drop (stay un keep).toNat).reverse sn us).1) :
    ∃ Q, f_Md_crash 30 keep M = some ((un.length : Int) - stay un keep, Q) ∧ mFr M Q ∧ mA time (lose (un.drop (stay un keep).toNat).reverse sn us).1 [] [-1, -1, -1] pr tl (lose (un.drop (stay un keep).toNat).reverse sn us).2 [] Q ∧ mB N (lose (un.drop (stay un keep).toNat).reverse sn us).1 (mem.filter (fun e => decide (eS e ≤ (lose (un.drop (stay un keep).toNat).reverse sn us).1))) l0 l1 l2 Q := by
  obtain ⟨h, hG, a1, a2, a3, a4, a5, a6, a7⟩ := mA_iff.mp hA
  obtain ⟨st, hst⟩ : ∃ st : Nat, stay un keep = (st : Int) := ⟨(stay un keep).toNat, by unfold stay; split <;> (try split) <;> omega⟩
  have hstl : st ≤ un.length := by
    have : stay un keep ≤ un.length := by unfold stay; split <;> (try split) <;> omega
    omega
  rw [hst] at hW hs2 hlow ⊢
  simp only [Int.toNat_natCast] at hW hs2 hlow ⊢
  generalize hres : (un.length : Int) - (st : Int) = res
  have hll : (un.drop st).reverse.length = un.length - st := by simp
  obtain ⟨Q1, p1, p2, p3, p4, p5, p6⟩ := ml_lose (st := st) (tl := tl) (by omega) htl (fun M47 => f_Md_crash_L123 (fun M67 => (pI M67 8 30 8 0).bind fun M68 => (pI M68 8 30 5 0).bind fun M70 => f_Md_crash_L185 (fun M77 => some (res, M77)) 30 zfu 0 M70) 30 zfu 0 M47) (un.drop st).reverse zfu us sn M (by rw [hll]; unfold zfu; omega) (by rw [hll]; omega) hus h hG a6 a2 hW (fun k r hr => by
    rw [List.reverse_reverse, List.getElem?_drop] at hr
    exact a7.2 (st + k) r hr)
  have hQ1 := p2.mSh h
  obtain ⟨Q2, r1, hU2⟩ := ml_cdrop hQ1 p3 (by rw [p6 30 1 (by decide) (by decide)]; exact hB.1) hB.2.1 (fun M67 => (pI M67 8 30 8 0).bind fun M68 => (pI M68 8 30 5 0).bind fun M70 => f_Md_crash_L185 (fun M77 => some (res, M77)) 30 zfu 0 M70) N zfu 0 Q1 (by omega) (zfu_gt hB.2.1) (Upd.rf p3)
  have hQ2 := hU2.1.mSh hQ1
  generalize hQ3e : wI (wI Q2 30 8 0) 30 5 0 = Q3
  have hQ3 : mSh Q3 := by rw [← hQ3e]; exact mSh_wI (mSh_wI hQ2)
  have hG3 : RG Q3 := by rw [← hQ3e]; exact RG_wI (RG_wI hU2.2.1 rg0) rg0
  obtain ⟨Q4, t1, t2, t3, t4, t5, t6, t7⟩ := ml_clr hQ3 hG3 (fun M77 => some (res, M77)) 596
  have hF3 : mFr Q2 Q3 := by rw [← hQ3e]; exact (mFr.wI Q2 (by decide) (by decide)).tr (mFr.wI _ (by decide) (by decide))
  have hI3 : ∀ q j, ¬ (q = 30 ∧ (j = 8 ∨ j = 5)) → iF Q3 q j = iF Q2 q j := fun q j hh => by
    rw [← hQ3e, iF_wI, if_neg (fun c => hh ⟨c.1, Or.inr c.2.1⟩), iF_wI, if_neg (fun c => hh ⟨c.1, Or.inl c.2.1⟩)]
  have hI : ∀ q j, q ≠ 45 → q ≠ 36 → ¬ (q = 30 ∧ (j = 8 ∨ j = 5)) → iF Q4 q j = iF Q1 q j := fun q j h1 h2 h3 => by
    rw [t4 q j h1, hI3 q j h3]; exact hU2.at h2
  have hI2 : ∀ q j, q ≠ 45 → q ≠ 36 → q ≠ 47 → q ≠ 30 → iF Q4 q j = iF M q j := fun q j h1 h2 h3 h4 => (hI q j h1 h2 (fun c => h4 c.1)).trans (p6 q j h3 (fun c => h4 c.1))
  have hI30 : ∀ j, j ≠ 8 → j ≠ 5 → j ≠ 4 → j ≠ 7 → iF Q4 30 j = iF M 30 j := fun j h1 h2 h3 h4 => (hI 30 j (by decide) (by decide) (by omega)).trans (p6 30 j (by decide) (by omega))
  refine ⟨Q4, ?_, (((p2.tr hU2.1).tr hF3).tr t2), mA_iff.mpr ⟨((((p2.tr hU2.1).tr hF3).tr t2)).mSh h, t3, (hI30 0 (by decide) (by decide) (by decide) (by decide)).trans a1, (hI 30 4 (by decide) (by decide) (by decide)).trans p5, (hI30 9 (by decide) (by decide) (by decide) (by decide)).trans a3, ⟨?_, fun k b hb => by simp at hb⟩, ⟨?_, ?_⟩, p4.cg (hI 30 6 (by decide) (by decide) (by decide)) (hI 30 7 (by decide) (by decide) (by decide)) (fun k => hI 47 k (by decide) (by decide) (by simp)), ?_, fun k b hb => by simp at hb⟩, ?_⟩
  · have key : crt (st : Int) res ((st : Int) + (un.drop st).reverse.length - 1) M = some (res, Q4) := by
      refine p1.trans (r1.trans ?_)
      simp only [↓gI_b, ↓gR_b, ↓pI_b, ↓pZ_b, ↓pR_b, ↓ldI_b, ↓ldR_b, ↓stI_b, ↓stZ_b, ↓stR_b, zk_eq, sh_wI, sh_wR, rF_wI, iF_wR, ms30 hQ2, true_and, and_true, and_self, ↓reduceIte, Int.toNat_natCast, Int.natCast_nonneg, Nat.reduceLT, Nat.reduceLeDiff, Nat.reduceEqDiff, ne_eq, not_false_eq_true, Nat.reduceAdd, reduceCtorEq, Int.reduceLT, Int.reduceLE, Int.reduceToNat, hQ3e]
      exact t1
    have hv : (st : Int) + ((un.drop st).reverse.length : Nat) - 1 = (un.length : Int) - 1 := by rw [hll]; omega
    rw [hv] at key
    rw [crt_eq]
    have e1 := zle_iff (x := 0) (y := keep) rg0 hk
    have e2 := zle_iff (x := keep) (y := (un.length : Int)) hk (rgN (by omega))
    have e3 : zsub (un.length : Int) 1 = un.length - 1 := zsub_eq (by omega) (by omega)
    unfold stay at hst
    by_cases c1 : 0 ≤ keep
    · rw [if_neg (by omega)] at hst
      by_cases c2 : keep ≤ un.length
      · rw [if_neg (by omega)] at hst
        subst hst
        have e4 : zsub (un.length : Int) (st : Int) = un.length - st := zsub_eq (by omega) (by omega)
        simp only [↓gI_b, ↓gR_b, ↓pI_b, ↓pZ_b, ↓pR_b, ↓ldI_b, ↓ldR_b, ↓stI_b, ↓stZ_b, ↓stR_b, zk_eq, sh_wI, sh_wR, rF_wI, iF_wR, ms30 h, true_and, and_true, and_self, ↓reduceIte, Int.toNat_natCast, Int.natCast_nonneg, Nat.reduceLT, Nat.reduceLeDiff, Nat.reduceEqDiff, ne_eq, not_false_eq_true, Nat.reduceAdd, reduceCtorEq, Int.reduceLT, Int.reduceLE, Int.reduceToNat, e1, c1, a7.1, e2, c2, e3, e4, hres, key]
      · rw [if_pos (by omega)] at hst
        have e4 : zsub (un.length : Int) (un.length : Int) = un.length - st := by rw [zsub_eq (by omega) (by omega)]; omega
        simp only [↓gI_b, ↓gR_b, ↓pI_b, ↓pZ_b, ↓pR_b, ↓ldI_b, ↓ldR_b, ↓stI_b, ↓stZ_b, ↓stR_b, zk_eq, sh_wI, sh_wR, rF_wI, iF_wR, ms30 h, true_and, and_true, and_self, ↓reduceIte, Int.toNat_natCast, Int.natCast_nonneg, Nat.reduceLT, Nat.reduceLeDiff, Nat.reduceEqDiff, ne_eq, not_false_eq_true, Nat.reduceAdd, reduceCtorEq, Int.reduceLT, Int.reduceLE, Int.reduceToNat, e1, c1, a7.1, e2, c2, e3, e4, hres]
        have hst2 : st = un.length := by omega
        subst hst2
        exact key
    · rw [if_pos (by omega)] at hst
      have e4 : zsub (un.length : Int) 0 = un.length - st := by rw [zsub_eq (by omega) (by omega)]; omega
      simp only [↓gI_b, ↓gR_b, ↓pI_b, ↓pZ_b, ↓pR_b, ↓ldI_b, ↓ldR_b, ↓stI_b, ↓stZ_b, ↓stR_b, zk_eq, sh_wI, sh_wR, rF_wI, iF_wR, ms30 h, true_and, and_true, and_self, ↓reduceIte, Int.toNat_natCast, Int.natCast_nonneg, Nat.reduceLT, Nat.reduceLeDiff, Nat.reduceEqDiff, ne_eq, not_false_eq_true, Nat.reduceAdd, reduceCtorEq, Int.reduceLT, Int.reduceLE, Int.reduceToNat, e1, c1, a7.1, e3, e4, hres]
      rw [hst]
      exact key
  · rw [t4 30 5 (by decide), ← hQ3e]
    exact wI30s (mSh_wI hQ2) (by decide)
  · unfold sn3 sv
    rw [t5, t6, t7]
    rfl
  · intro s hs
    match s, hs with
    | 0, _ => rw [t5]; exact ⟨Or.inl rfl, fun q => by omega⟩
    | 1, _ => rw [t6]; exact ⟨Or.inl rfl, fun q => by omega⟩
    | 2, _ => rw [t7]; exact ⟨Or.inl rfl, fun q => by omega⟩
  · rw [t4 30 8 (by decide), ← hQ3e, wI30 (by decide)]
    exact wI30s hQ2 (by decide)
  · refine hB.cut hs2 hlow (fun q j h1 h2 h3 => hI2 q j (by omega) h3 (by omega) (by omega)) (hI30 1 (by decide) (by decide) (by decide) (by decide)) (hI30 2 (by decide) (by decide) (by decide) (by decide)) (hI30 3 (by decide) (by decide) (by decide) (by decide)) (fun e he => ?_)
    rw [t4 36 e (by decide), hI3 36 e (by simp), hU2.2.2.2 e, if_pos he]
    dsimp only
    rw [p5, p6 36 e (by decide) (by simp), p6 32 e (by decide) (by simp)]
end MD21
