theorem lst_app (vs : List Int) (u : Int) : lst (vs ++ [u]) = u := by unfold lst; simp
theorem drop_app (vs : List Int) (u : Int) : (vs ++ [u]).dropLast = vs := by simp
section MD13
variable {M : zHp} {N : Nat} {time sn : Int} {bt : List Bt} {seen : List Int} {pr tl : Int} {us vs : List Int} {u : Int} {un : List Un} {mem : List En} {l0 : List (List En)} {l1 l2 : List En}
theorem uA.last (hU : uA tl (vs ++ [u]) M) : iF M 30 7 = tl + vs.length ∧ iF M 47 ((tl + vs.length) % 8).toNat = u := by
  refine ⟨by rw [hU.2.1, List.length_append]; simp; omega, hU.2.2 vs.length u (by simp)⟩
theorem m_needsHead (hA : mA time sn bt seen pr tl (vs ++ [u]) un M) (ht : 0 ≤ tl ∧ tl + vs.length ≤ 100000) (hu : 0 ≤ u ∧ u ≤ 100) {n : Int} (hn : 0 ≤ n ∧ n ≤ 600) : f_Md_needsHead 30 n M = some (if 16 < u + 1 + n then 1 else 0, M) := by
  obtain ⟨h, hG, a1, a2, a3, a4, a5, a6, a7⟩ := mA_iff.mp hA
  obtain ⟨u7, u47⟩ := a6.last
  unfold f_Md_needsHead
  have e1 : zrem (tl + vs.length) 8 = (tl + vs.length) % 8 := zrem_eq (by unfold rg; omega) (by unfold rg; omega) (by omega) (by omega)
  have e2 : 0 ≤ (tl + vs.length) % 8 := by omega
  have e3 : (tl + vs.length) % 8 < 4096 := by omega
  have e4 : ((tl + vs.length) % 8).toNat < 8 := by omega
  have e5 : zadd u 1 = u + 1 := zadd_eq (by omega) (by omega)
  have e6 : zadd (u + 1) n = u + 1 + n := zadd_eq (by omega) (by omega)
  have e7 := zle_iff (x := u + 1 + n) (y := 16) (by unfold rg; omega) (by unfold rg; omega)
  by_cases c : u + 1 + n ≤ 16
  · rw [if_neg (show ¬ 16 < u + 1 + n by omega)]
    simp only [↓gI_b, ↓gR_b, ↓pI_b, ↓pZ_b, ↓pR_b, ↓ldI_b, ↓ldR_b, ↓stI_b, ↓stZ_b, ↓stR_b, zk_eq, sh_wI, sh_wR, rF_wI, iF_wR, ms30 h, ms31 h, ms32 h, ms33 h, ms34 h, ms35 h, ms36 h, ms37 h, ms38 h, ms39 h, ms40 h, ms41 h, ms42 h, ms43 h, ms44 h, ms45 h, ms46 h, ms47 h, ms48 h, ms49 h, ms50 h, mr0 h, mr1 h, mr2 h, mr3 h, mr4 h, mr5 h, mr6 h, mr7 h, mr8 h, mr9 h, mr10 h, mr11 h, mr12 h, mr13 h, mr14 h, mr15 h, mr16 h, mr17 h, mr18 h, mr19 h, true_and, and_true, and_self, ↓reduceIte, Int.toNat_natCast, Int.natCast_nonneg, Nat.reduceLT, Nat.reduceLeDiff, Nat.reduceEqDiff, ne_eq, not_false_eq_true, Nat.reduceAdd, reduceCtorEq, Int.reduceLT, Int.reduceLE, Int.reduceToNat, u7, e1, e2, e3, e4, u47, e5, e6, e7, c]
  · rw [if_pos (show 16 < u + 1 + n by omega)]
    simp only [↓gI_b, ↓gR_b, ↓pI_b, ↓pZ_b, ↓pR_b, ↓ldI_b, ↓ldR_b, ↓stI_b, ↓stZ_b, ↓stR_b, zk_eq, sh_wI, sh_wR, rF_wI, iF_wR, ms30 h, ms31 h, ms32 h, ms33 h, ms34 h, ms35 h, ms36 h, ms37 h, ms38 h, ms39 h, ms40 h, ms41 h, ms42 h, ms43 h, ms44 h, ms45 h, ms46 h, ms47 h, ms48 h, ms49 h, ms50 h, mr0 h, mr1 h, mr2 h, mr3 h, mr4 h, mr5 h, mr6 h, mr7 h, mr8 h, mr9 h, mr10 h, mr11 h, mr12 h, mr13 h, mr14 h, mr15 h, mr16 h, mr17 h, mr18 h, mr19 h, true_and, and_true, and_self, ↓reduceIte, Int.toNat_natCast, Int.natCast_nonneg, Nat.reduceLT, Nat.reduceLeDiff, Nat.reduceEqDiff, ne_eq, not_false_eq_true, Nat.reduceAdd, reduceCtorEq, Int.reduceLT, Int.reduceLE, Int.reduceToNat, u7, e1, e2, e3, e4, u47, e5, e6, e7, c]
theorem mod8 {a i j : Int} (h1 : 0 ≤ i) (h2 : i < j) (h3 : j < i + 8) : ((a + i) % 8) ≠ ((a + j) % 8) := by omega
theorem m_record (hA : mA time sn bt seen pr tl (vs ++ [u]) un M) (ht : 0 ≤ tl ∧ tl + vs.length ≤ 100000) (hu : 0 ≤ u ∧ u ≤ 100) {n : Int} (hn : 0 ≤ n ∧ n ≤ 600) (hl : 16 < u + 1 + n → vs.length < 7) (hl2 : vs.length ≤ 7) : ∃ Q, f_Md_record 30 n M = some ((rec1 (vs ++ [u]) n).2, Q) ∧ mFr M Q ∧ mA time sn bt seen pr tl (rec1 (vs ++ [u]) n).1 un Q ∧ ∀ q k, ¬ (q = 30 ∧ k = 7) → q ≠ 47 → iF Q q k = iF M q k := by
  have hnh := m_needsHead hA ht hu hn
  obtain ⟨h, hG, a1, a2, a3, a4, a5, a6, a7⟩ := mA_iff.mp hA
  obtain ⟨u7, u47⟩ := a6.last
  have e1 : zrem (tl + vs.length) 8 = (tl + vs.length) % 8 := zrem_eq (by unfold rg; omega) (by unfold rg; omega) (by omega) (by omega)
  have e2 : 0 ≤ (tl + vs.length) % 8 := by omega
  have e3 : (tl + vs.length) % 8 < 4096 := by omega
  have e4 : ((tl + vs.length) % 8).toNat < 8 := by omega
  have e5 : zadd u 1 = u + 1 := zadd_eq (by omega) (by omega)
  have e6 : zadd (u + 1) n = u + 1 + n := zadd_eq (by omega) (by omega)
  unfold f_Md_record rec1
  rw [lst_app, drop_app]
  by_cases c : 16 < u + 1 + n
  · rw [if_pos c] at hnh
    rw [if_pos c]
    have hl := hl c
    have z1 : ¬ zeq 1 0 := by decide
    have f1 : zadd (tl + vs.length) 1 = tl + vs.length + 1 := zadd_eq (by omega) (by omega)
    have f2 : zrem (tl + vs.length + 1) 8 = (tl + vs.length + 1) % 8 := zrem_eq (by unfold rg; omega) (by unfold rg; omega) (by omega) (by omega)
    have f3 : 0 ≤ (tl + vs.length + 1) % 8 := by omega
    have f4 : (tl + vs.length + 1) % 8 < 4096 := by omega
    have f5 : ((tl + vs.length + 1) % 8).toNat < 8 := by omega
    have f6 : zadd 0 1 = 1 := by decide
    have f7 : zadd 1 n = 1 + n := zadd_eq (by omega) (by omega)
    generalize hQ : wI (wI (wI M 30 7 (tl + vs.length + 1)) 47 ((tl + vs.length + 1) % 8).toNat 0) 47 ((tl + vs.length + 1) % 8).toNat (1 + n) = Q
    have hF : mFr M Q := by rw [← hQ]; exact ((mFr.wI M (by decide) (by decide)).tr (mFr.wI _ (by decide) (by decide))).tr (mFr.wI _ (by decide) (by decide))
    have hI : ∀ q k, ¬ (q = 30 ∧ k = 7) → q ≠ 47 → iF Q q k = iF M q k := fun q k h1 h2 => by rw [← hQ, wIq h2, wIq h2, iF_wI, if_neg (fun c => h1 ⟨c.1, c.2.1⟩)]
    have g7 : iF Q 30 7 = tl + vs.length + 1 := by rw [← hQ, wIq (by decide), wIq (by decide), wI30s h (by decide)]
    have g47 : ∀ k, iF Q 47 k = if k = ((tl + vs.length + 1) % 8).toNat then 1 + n else iF M 47 k := fun k => by
      rw [← hQ, iF_wI, sh_wI, sh_wI, ms47 h, iF_wI, sh_wI, ms47 h, wIq (by decide)]
      by_cases hk : k = ((tl + vs.length + 1) % 8).toNat
      · rw [if_pos ⟨rfl, hk, f5⟩, if_pos hk]
      · rw [if_neg (fun c => hk c.2.1), if_neg (fun c => hk c.2.1), if_neg hk]
    refine ⟨Q, ?_, hF, mA_iff.mpr ⟨hF.mSh h, ?_, (hI 30 0 (by decide) (by decide)).trans a1, (hI 30 4 (by decide) (by decide)).trans a2, (hI 30 9 (by decide) (by decide)).trans a3, a4.cg (hI 30 5 (by decide) (by decide)) (fun k => hI 42 k (by simp) (by decide)) (fun k => hI 43 k (by simp) (by decide)) (fun k => hI 44 k (by simp) (by decide)), a5.cg (fun k => hI 45 k (by simp) (by decide)) (fun k => hI 46 k (by simp) (by decide)), ⟨(hI 30 6 (by decide) (by decide)).trans a6.1, ?_, ?_⟩, a7.cg (hI 30 8 (by decide) (by decide)) (fun k => hI 48 k (by simp) (by decide)) (fun k => hI 49 k (by simp) (by decide)) (fun k => hI 50 k (by simp) (by decide))⟩, hI⟩
    · have w7 : iF (wI M 30 7 (tl + vs.length + 1)) 30 7 = tl + vs.length + 1 := wI30s h (by decide)
      have w7' : ∀ (A : zHp) (j : Nat) (y : Int), iF (wI A 47 j y) 30 7 = iF A 30 7 := fun A j y => wIq (by decide)
      have w47 : iF (wI (wI M 30 7 (tl + vs.length + 1)) 47 ((tl + vs.length + 1) % 8).toNat 0) 47 ((tl + vs.length + 1) % 8).toNat = 0 := by rw [iF_wI, sh_wI, ms47 h, if_pos ⟨rfl, rfl, f5⟩]
      simp only [↓gI_b, ↓gR_b, ↓pI_b, ↓pZ_b, ↓pR_b, ↓ldI_b, ↓ldR_b, ↓stI_b, ↓stZ_b, ↓stR_b, zk_eq, sh_wI, sh_wR, rF_wI, iF_wR, ms30 h, ms31 h, ms32 h, ms33 h, ms34 h, ms35 h, ms36 h, ms37 h, ms38 h, ms39 h, ms40 h, ms41 h, ms42 h, ms43 h, ms44 h, ms45 h, ms46 h, ms47 h, ms48 h, ms49 h, ms50 h, mr0 h, mr1 h, mr2 h, mr3 h, mr4 h, mr5 h, mr6 h, mr7 h, mr8 h, mr9 h, mr10 h, mr11 h, mr12 h, mr13 h, mr14 h, mr15 h, mr16 h, mr17 h, mr18 h, mr19 h, true_and, and_true, and_self, ↓reduceIte, Int.toNat_natCast, Int.natCast_nonneg, Nat.reduceLT, Nat.reduceLeDiff, Nat.reduceEqDiff, ne_eq, not_false_eq_true, Nat.reduceAdd, reduceCtorEq, Int.reduceLT, Int.reduceLE, Int.reduceToNat, ↓zb2_of hnh, z1, u7, f1, w7, w7', f2, f3, f4, f5, w47, f6, f7, hQ]
    · rw [← hQ]; exact RG_wI (RG_wI (RG_wI hG (by unfold rg; omega)) rg0) (by unfold rg; omega)
    · rw [g7]; simp; omega
    · intro k w hw
      rw [g47]
      by_cases hk : k < vs.length + 1
      · rw [List.getElem?_append_left (by simp; omega)] at hw
        have := mod8 (a := tl) (i := (k : Int)) (j := (vs.length : Int) + 1) (by omega) (by omega) (by omega)
        rw [if_neg (by intro q; apply this; have e : tl + ((vs.length : Int) + 1) = tl + vs.length + 1 := by omega
                       rw [e]; omega)]
        exact a6.2.2 k w hw
      · have hk2 : k = vs.length + 1 := by
          have := (List.getElem?_eq_some_iff.mp hw).1
          simp at this
          omega
        subst hk2
        rw [List.getElem?_append_right (by simp)] at hw
        simp at hw
        rw [if_pos (by congr 2; omega)]
        exact hw
  · rw [if_neg c] at hnh
    rw [if_neg c]
    have z0 : zeq 0 0 := rfl
    generalize hQ : wI M 47 ((tl + vs.length) % 8).toNat (u + 1 + n) = Q
    have hF : mFr M Q := by rw [← hQ]; exact mFr.wI M (by decide) (by decide)
    have hI0 : ∀ q k, q ≠ 47 → iF Q q k = iF M q k := fun q k h2 => by rw [← hQ, wIq h2]
    have hI : ∀ q k, ¬ (q = 30 ∧ k = 7) → q ≠ 47 → iF Q q k = iF M q k := fun q k _ h2 => hI0 q k h2
    have g47 : ∀ k, iF Q 47 k = if k = ((tl + vs.length) % 8).toNat then u + 1 + n else iF M 47 k := fun k => by
      rw [← hQ, iF_wI, ms47 h]
      by_cases hk : k = ((tl + vs.length) % 8).toNat
      · rw [if_pos ⟨rfl, hk, e4⟩, if_pos hk]
      · rw [if_neg (fun c => hk c.2.1), if_neg hk]
    refine ⟨Q, ?_, hF, mA_iff.mpr ⟨hF.mSh h, ?_, (hI0 30 0 (by decide)).trans a1, (hI0 30 4 (by decide)).trans a2, (hI0 30 9 (by decide)).trans a3, a4.cg (hI0 30 5 (by decide)) (fun k => hI0 42 k (by decide)) (fun k => hI0 43 k (by decide)) (fun k => hI0 44 k (by decide)), a5.cg (fun k => hI0 45 k (by decide)) (fun k => hI0 46 k (by decide)), ⟨(hI0 30 6 (by decide)).trans a6.1, ?_, ?_⟩, a7.cg (hI0 30 8 (by decide)) (fun k => hI0 48 k (by decide)) (fun k => hI0 49 k (by decide)) (fun k => hI0 50 k (by decide))⟩, hI⟩
    · simp only [↓gI_b, ↓gR_b, ↓pI_b, ↓pZ_b, ↓pR_b, ↓ldI_b, ↓ldR_b, ↓stI_b, ↓stZ_b, ↓stR_b, zk_eq, sh_wI, sh_wR, rF_wI, iF_wR, ms30 h, ms31 h, ms32 h, ms33 h, ms34 h, ms35 h, ms36 h, ms37 h, ms38 h, ms39 h, ms40 h, ms41 h, ms42 h, ms43 h, ms44 h, ms45 h, ms46 h, ms47 h, ms48 h, ms49 h, ms50 h, mr0 h, mr1 h, mr2 h, mr3 h, mr4 h, mr5 h, mr6 h, mr7 h, mr8 h, mr9 h, mr10 h, mr11 h, mr12 h, mr13 h, mr14 h, mr15 h, mr16 h, mr17 h, mr18 h, mr19 h, true_and, and_true, and_self, ↓reduceIte, Int.toNat_natCast, Int.natCast_nonneg, Nat.reduceLT, Nat.reduceLeDiff, Nat.reduceEqDiff, ne_eq, not_false_eq_true, Nat.reduceAdd, reduceCtorEq, Int.reduceLT, Int.reduceLE, Int.reduceToNat, ↓zb2_of hnh, z0, u7, e1, e2, e3, e4, u47, e5, e6, hQ]
    · rw [← hQ]; exact RG_wI hG (by unfold rg; omega)
    · rw [hI0 30 7 (by decide), u7]; simp; omega
    · intro k w hw
      rw [g47]
      by_cases hk : k < vs.length
      · rw [List.getElem?_append_left hk] at hw
        have := mod8 (a := tl) (i := (k : Int)) (j := (vs.length : Int)) (by omega) (by omega) (by omega)
        rw [if_neg (by intro q; apply this; omega)]
        exact a6.2.2 k w (by rw [List.getElem?_append_left hk]; exact hw)
      · have hk2 : k = vs.length := by
          have := (List.getElem?_eq_some_iff.mp hw).1
          simp at this
          omega
        subst hk2
        rw [List.getElem?_append_right (Nat.le_refl _)] at hw
        simp at hw
        rw [if_pos rfl]
        exact hw
end MD13
