-- commit
theorem bte_cons (time sn g at0 : Int) (k v life : Int) (l : List Bt) : bte time sn g at0 ((k, v, life) :: l) = (if life < 0 then (k, sn + 1, 1, -1, 0, 0, 0) else (k, sn + 1, 0, if 0 < life then time + life else -1, v, g, at0)) :: bte time (sn + 1) g (at0 + 1) l := rfl
/-- what a batch may hold -/
def btW (bt : List Bt) : Prop := bt.length ≤ 6 ∧ ∀ b ∈ bt, 0 ≤ b.1 ∧ b.1 < 32 ∧ -1 ≤ b.2.2 ∧ b.2.2 ≤ 1000 ∧ rg b.2.1
def cmt (M : zHp) : Option (Int × zHp) :=
  (gR M 8 30 19).bind fun x16 =>
  (gI M 8 30 8).bind fun x18 =>
  (gI M 8 30 5).bind fun x20 =>
  zb2 (f_Md_needsHead 30 x20 M) fun x24 M23 =>
  (stZ M23 21 x16 x18 x24).bind fun M25 =>
  (gR M25 8 30 17).bind fun x27 =>
  (gI M25 8 30 8).bind fun x29 =>
  (gI M25 8 30 4).bind fun x31 =>
  (stI M25 20 x27 x29 (zadd x31 1)).bind fun M33 =>
  (gR M33 8 30 18).bind fun x35 =>
  (gI M33 8 30 8).bind fun x37 =>
  (gI M33 8 30 5).bind fun x39 =>
  (stI M33 20 x35 x37 (zadd 1 x39)).bind fun M41 =>
  (gI M41 8 30 8).bind fun x43 =>
  (pI M41 8 30 8 (zadd x43 1)).bind fun M45 =>
  (gI M45 8 30 5).bind fun x47 =>
  zb2 (f_Md_record 30 x47 M45) fun x51 M50 =>
  f_Md_commit_L127 (fun M196 =>
    (gI M196 8 30 5).bind fun x197 =>
    (pI M196 8 30 5 0).bind fun M199 =>
    some (x197, M199)) 30 x51 zfu 0 M50
theorem cmt_eq (M : zHp) : f_Md_commit 30 M = if zk M 30 = 8 then
    (gI M 8 30 5).bind fun x1 =>
    if zeq x1 0 then
      some ((-2), M)
    else
    (gI M 8 30 5).bind fun x4 =>
    zb2 (f_Md_needsHead 30 x4 M) fun x8 M7 =>
    if zeq x8 0 then
      zb2 (f_Md_size 30 (-1) M7) fun x12 M11 =>
      (gI M11 8 30 5).bind fun x13 =>
      if zle (zadd x12 x13) 8 then cmt M11 else (f_Md_flushAll 30 M11).bind fun M202 => cmt M202
    else
    (gI M7 8 30 7).bind fun x244 =>
    (gI M7 8 30 6).bind fun x246 =>
    if zlt (zadd (zsub x244 x246) 1) 8 then
      zb2 (f_Md_size 30 (-1) M7) fun x251 M250 =>
      (gI M250 8 30 5).bind fun x252 =>
      if zle (zadd x251 x252) 8 then cmt M250 else (f_Md_flushAll 30 M250).bind fun M297 => cmt M297
    else
    some ((-3), M7)
  else none := rfl
section MD16
variable {M : zHp} {N : Nat} {time sn : Int} {bt : List Bt} {seen : List Int} {pr tl : Int} {us vs : List Int} {u : Int} {un : List Un} {mem : List En} {l0 : List (List En)} {l1 l2 : List En}
theorem ml_commit {g at0 : Int} (hg : g = tl + us.length - 1) (hW : btW bt) (ht : 0 ≤ time ∧ time ≤ 1000000) (ha : 0 ≤ at0 ∧ at0 ≤ 100) (hgr : rg g) (κ : zHp → Option (Int × zHp)) :
    ∀ (rest done : List Bt) (n : Nat) (M : zHp) (N : Nat) (sn : Int) (mem : List En), bt = done ++ rest → rest.length < n → N + rest.length ≤ 520 → mA time sn bt seen pr tl us un M → mB N sn mem l0 l1 l2 M →
      ∃ Q, f_Md_commit_L127 κ 30 at0 n ((done.length : Nat) : Int) M = κ Q ∧ mFr M Q ∧ mA time (sn + rest.length) bt seen pr tl us un Q ∧ mB (N + rest.length) (sn + rest.length) (mem ++ bte time sn g (at0 + done.length) rest) l0 l1 l2 Q := by
  intro rest
  induction rest with
  | nil =>
    intro done n M N sn mem hbt hn hN hA hB
    obtain ⟨n, rfl⟩ : ∃ k, n = k + 1 := ⟨n - 1, by omega⟩
    have h := hA.1
    have hb : bt = done := by simpa using hbt
    have b4 := (mA_iff.mp hA).2.2.2.2.2.1
    have hle := hW.1
    have e1 : zle (bt.length : Int) ((done.length : Nat) : Int) := by
      rw [hb] at hle ⊢
      exact (zle_iff (rgN (by omega)) (rgN (by omega))).mpr (Int.le_refl _)
    refine ⟨M, ?_, mFr.rf M, by simpa using hA, by simpa [bte] using hB⟩
    unfold f_Md_commit_L127
    simp only [↓gI_b, ↓gR_b, ↓pI_b, ↓pZ_b, ↓pR_b, ↓ldI_b, ↓ldR_b, ↓stI_b, ↓stZ_b, ↓stR_b, zk_eq, sh_wI, sh_wR, rF_wI, iF_wR, ms30 h, ms31 h, ms32 h, ms33 h, ms34 h, ms35 h, ms36 h, ms37 h, ms38 h, ms39 h, ms40 h, ms41 h, ms42 h, ms43 h, ms44 h, ms45 h, ms46 h, ms47 h, ms48 h, ms49 h, ms50 h, mr0 h, mr1 h, mr2 h, mr3 h, mr4 h, mr5 h, mr6 h, mr7 h, mr8 h, mr9 h, mr10 h, mr11 h, mr12 h, mr13 h, mr14 h, mr15 h, mr16 h, mr17 h, mr18 h, mr19 h, true_and, and_true, and_self, ↓reduceIte, Int.toNat_natCast, Int.natCast_nonneg, Nat.reduceLT, Nat.reduceLeDiff, Nat.reduceEqDiff, ne_eq, not_false_eq_true, Nat.reduceAdd, reduceCtorEq, Int.reduceLT, Int.reduceLE, Int.reduceToNat, b4.1, e1]
  | cons b rest ih =>
    intro done n M N sn mem hbt hn hN hA hB
    obtain ⟨n, rfl⟩ : ∃ k, n = k + 1 := ⟨n - 1, by simp only [List.length_cons] at hn; omega⟩
    obtain ⟨k, v, life⟩ := b
    have hj : bt[done.length]? = some (k, v, life) := by rw [hbt, List.getElem?_append_right (Nat.le_refl _)]; simp
    have hw := hW.2 (k, v, life) (List.mem_of_getElem? hj)
    have hw1 : 0 ≤ k := hw.1
    have hw2 : k < 32 := hw.2.1
    have hw3 : -1 ≤ life := hw.2.2.1
    have hw4 : life ≤ 1000 := hw.2.2.2.1
    have hw5 : rg v := hw.2.2.2.2
    have hlen : done.length < bt.length := (List.getElem?_eq_some_iff.mp hj).1
    have hle := hW.1
    have hN1 := hB.1
    have hs := hB.2.2.1
    have hs2 := hB.2.2.2.1
    simp only [List.length_cons] at hN hn
    have a6 := (mA_iff.mp hA).2.2.2.2.2.2.2.1
    have h7 : iF M 30 7 = g := by rw [a6.2.1, hg]
    have step := ml_commit1 hA hN1 (by omega) (by omega) ht hj ⟨hw3, hw4⟩ hle (a1 := at0) (by omega) κ n
    rw [h7] at step
    have hd : (if life < 0 then (1 : Int) else 0) = 0 ∨ (if life < 0 then (1 : Int) else 0) = 1 := by split <;> simp
    have hx : 0 ≤ (if 0 < life then time + life else 0) := by split <;> omega
    have hA' := nE_A (N := N) (k := k) (d := if life < 0 then 1 else 0) (v := v) (x := if 0 < life then time + life else 0) (g := g) (c := at0 + done.length) hA (by omega) (by unfold rg; omega) (by unfold rg; omega) (by split <;> first | exact rg1 | exact rg0) hw5 (by split <;> unfold rg <;> omega) hgr (by unfold rg; omega)
    have hB' := nE_B (k := k) (d := if life < 0 then 1 else 0) (v := v) (x := if 0 < life then time + life else 0) (g := g) (c := at0 + done.length) hA.1 hB (by omega) ⟨hw1, hw2⟩ hd hx
    obtain ⟨Q, q1, q2, q3, q4⟩ := ih (done ++ [(k, v, life)]) n _ (N + 1) (sn + 1) _ (by rw [hbt]; simp) (by omega) (by omega) hA' hB'
    rw [List.length_append] at q1
    refine ⟨Q, step.trans q1, nE_fr.tr q2, ?_, ?_⟩
    · have e : sn + 1 + (rest.length : Int) = sn + (((k, v, life) :: rest).length : Nat) := by simp only [List.length_cons]; omega
      rw [e] at q3
      exact q3
    · have e : sn + 1 + (rest.length : Int) = sn + (((k, v, life) :: rest).length : Nat) := by simp only [List.length_cons]; omega
      have e2 : N + 1 + rest.length = N + ((k, v, life) :: rest).length := by simp only [List.length_cons]; omega
      rw [e, e2] at q4
      have e3 : mem ++ bte time sn g (at0 + done.length) ((k, v, life) :: rest) = mem ++ [if (if life < 0 then (1 : Int) else 0) = 0 then (k, sn + 1, 0, if (if 0 < life then time + life else 0) = 0 then -1 else (if 0 < life then time + life else 0), v, g, at0 + done.length) else (k, sn + 1, 1, -1, 0, 0, 0)] ++ bte time (sn + 1) g (at0 + (done ++ [(k, v, life)]).length) rest := by
        rw [bte_cons, List.append_assoc]
        congr 1
        rw [List.singleton_append]
        congr 1
        · by_cases c : life < 0
          · simp [c]
          · by_cases c2 : 0 < life
            · have : ¬ (time + life = 0) := by omega
              simp [c, c2, this]
            · simp [c, c2]
        · congr 1
          simp only [List.length_append, List.length_cons, List.length_nil]
          omega
      rw [e3]
      exact q4
theorem m_cmt (hA : mA time sn bt seen pr tl (vs ++ [u]) un M) (hB : mB N sn mem l0 l1 l2 M) (hW : btW bt) (hb0 : bt ≠ []) (hN : N + bt.length ≤ 520) (hun : un.length < 16) (ht : 0 ≤ time ∧ time ≤ 1000000) (htl : 0 ≤ tl ∧ tl + vs.length ≤ 100000) (hu : 0 ≤ u ∧ u ≤ 16) (hl : 16 < u + 1 + bt.length → vs.length < 7) (hl2 : vs.length ≤ 7) :
    ∃ Q, cmt M = some ((bt.length : Int), Q) ∧ mFr M Q ∧ mA time (sn + bt.length) [] seen pr tl (rec1 (vs ++ [u]) bt.length).1 (un ++ [(sn + 1, 1 + (bt.length : Int), if 16 < u + 1 + (bt.length : Int) then (1 : Int) else 0)]) Q ∧
      mB (N + bt.length) (sn + bt.length) (mem ++ bte time sn (tl + ((rec1 (vs ++ [u]) bt.length).1.length : Nat) - 1) (rec1 (vs ++ [u]) bt.length).2 bt) l0 l1 l2 Q := by
  have hble := hW.1
  have hn : (0 : Int) ≤ bt.length ∧ (bt.length : Int) ≤ 600 := by omega
  have hnh := m_needsHead hA htl (by omega) hn
  obtain ⟨h, hG, a1, a2, a3, a4, a5, a6, a7⟩ := mA_iff.mp hA
  have hsn := hB.2.2.1
  have hsn2 := hB.2.2.2.1
  have e1 : ((un.length : Nat) : Int) < 4096 := by omega
  have e2 := zaddN (i := un.length) (by omega)
  have e3 : zadd sn 1 = sn + 1 := zadd_eq (by omega) (by omega)
  have e4 : zadd 1 (bt.length : Int) = 1 + bt.length := zadd_eq (by omega) (by omega)
  generalize hbg : (if 16 < u + 1 + (bt.length : Int) then (1 : Int) else 0) = bg at hnh ⊢
  have hb01 : bg = 0 ∨ bg = 1 := by rw [← hbg]; split <;> simp
  generalize hP : wI (wI (wI (wI M 50 un.length bg) 48 un.length (sn + 1)) 49 un.length (1 + bt.length)) 30 8 ((un.length + 1 : Nat) : Int) = P
  have hF : mFr M P := by rw [← hP]; exact (((mFr.wI M (by decide) (by decide)).tr (mFr.wI _ (by decide) (by decide))).tr (mFr.wI _ (by decide) (by decide))).tr (mFr.wI _ (by decide) (by decide))
  have hGP : RG P := by rw [← hP]; exact RG_wI (RG_wI (RG_wI (RG_wI hG (rg01 hb01)) (by unfold rg; omega)) (by unfold rg; omega)) (rgN (by omega))
  have hI : ∀ q j, ¬ (q = 30 ∧ j = 8) → q ≠ 48 → q ≠ 49 → q ≠ 50 → iF P q j = iF M q j := fun q j h1 h2 h3 h4 => by
    rw [← hP, iF_wI, if_neg (fun c => h1 ⟨c.1, c.2.1⟩), wIq h3, wIq h2, wIq h4]
  have p8 : iF P 30 8 = ((un.length + 1 : Nat) : Int) := by rw [← hP]; exact wI30s (mSh_wI (mSh_wI (mSh_wI h))) (by decide)
  have p48 : ∀ j, iF P 48 j = if j = un.length then sn + 1 else iF M 48 j := fun j => by
    rw [← hP, wIq (by decide), wIq (by decide), iF_wI, sh_wI, ms48 h, wIq (by decide)]
    by_cases c : j = un.length
    · simp [c, hun]
    · simp [c]
  have p49 : ∀ j, iF P 49 j = if j = un.length then 1 + (bt.length : Int) else iF M 49 j := fun j => by
    rw [← hP, wIq (by decide), iF_wI, sh_wI, sh_wI, ms49 h, wIq (by decide), wIq (by decide)]
    by_cases c : j = un.length
    · simp [c, hun]
    · simp [c]
  have p50 : ∀ j, iF P 50 j = if j = un.length then bg else iF M 50 j := fun j => by
    rw [← hP, wIq (by decide), wIq (by decide), wIq (by decide), iF_wI, ms50 h]
    by_cases c : j = un.length
    · simp [c, hun]
    · simp [c]
  have hAP : mA time sn bt seen pr tl (vs ++ [u]) (un ++ [(sn + 1, 1 + (bt.length : Int), bg)]) P := by
    refine mA_iff.mpr ⟨hF.mSh h, hGP, (hI 30 0 (by decide) (by decide) (by decide) (by decide)).trans a1, (hI 30 4 (by decide) (by decide) (by decide) (by decide)).trans a2, (hI 30 9 (by decide) (by decide) (by decide) (by decide)).trans a3, a4.cg (hI 30 5 (by decide) (by decide) (by decide) (by decide)) (fun j => hI 42 j (by simp) (by decide) (by decide) (by decide)) (fun j => hI 43 j (by simp) (by decide) (by decide) (by decide)) (fun j => hI 44 j (by simp) (by decide) (by decide) (by decide)), a5.cg (fun j => hI 45 j (by simp) (by decide) (by decide) (by decide)) (fun j => hI 46 j (by simp) (by decide) (by decide) (by decide)), a6.cg (hI 30 6 (by decide) (by decide) (by decide) (by decide)) (hI 30 7 (by decide) (by decide) (by decide) (by decide)) (fun j => hI 47 j (by simp) (by decide) (by decide) (by decide)), ?_, ?_⟩
    · rw [p8, List.length_append]; rfl
    · intro j w hw
      rw [p48, p49, p50]
      by_cases hj : j < un.length
      · rw [List.getElem?_append_left hj] at hw
        rw [if_neg (by omega), if_neg (by omega), if_neg (by omega)]
        exact a7.2 j w hw
      · have hj2 : j = un.length := by
          have := (List.getElem?_eq_some_iff.mp hw).1
          simp at this
          omega
        subst hj2
        rw [List.getElem?_append_right (Nat.le_refl _)] at hw
        simp at hw
        rw [if_pos rfl, if_pos rfl, if_pos rfl]
        exact hw.symm
  have hBP : mB N sn mem l0 l1 l2 P := hB.cg (hI 30 1 (by decide) (by decide) (by decide) (by decide)) (hI 30 2 (by decide) (by decide) (by decide) (by decide)) (hI 30 3 (by decide) (by decide) (by decide) (by decide)) (fun q j h1 h2 => hI q j (by omega) (by omega) (by omega) (by omega))
  obtain ⟨R, r1, r2, r3, r4⟩ := m_record hAP htl (by omega) hn hl hl2
  have hBR : mB N sn mem l0 l1 l2 R := hBP.cg (r4 30 1 (by decide) (by decide)) (r4 30 2 (by decide) (by decide)) (r4 30 3 (by decide) (by decide)) (fun q j h1 h2 => r4 q j (by omega) (by omega))
  have hrl : (rec1 (vs ++ [u]) bt.length).1.length ≤ 8 := by
    unfold rec1
    rw [lst_app, drop_app]
    split
    · have := hl (by assumption); simp; omega
    · simp; omega
  have hra : 0 ≤ (rec1 (vs ++ [u]) bt.length).2 ∧ (rec1 (vs ++ [u]) bt.length).2 ≤ 100 := by
    unfold rec1
    rw [lst_app]
    split
    · simp
    · simp only; omega
  obtain ⟨Q, s1, s2, s3, s4⟩ := ml_commit (bt := bt) (g := tl + ((rec1 (vs ++ [u]) bt.length).1.length : Nat) - 1) (at0 := (rec1 (vs ++ [u]) bt.length).2) rfl hW ht hra (by unfold rg; omega) (fun M196 => (gI M196 8 30 5).bind fun x197 => (pI M196 8 30 5 0).bind fun M199 => some (x197, M199)) bt [] zfu R N sn mem rfl (by unfold zfu; omega) hN r3 hBR
  have hQs := s3.1
  have b4 := (mA_iff.mp s3).2.2.2.2.2.1
  have hJ : ∀ q j, ¬ (q = 30 ∧ j = 5) → iF (wI Q 30 5 0) q j = iF Q q j := fun q j hh => by rw [iF_wI, if_neg (fun c => hh ⟨c.1, c.2.1⟩)]
  refine ⟨wI Q 30 5 0, ?_, ((hF.tr r2).tr s2).tr (mFr.wI Q (by decide) (by decide)), ?_, ?_⟩
  · have w8 : ∀ (A : zHp) (r j : Nat) (y : Int), r ≠ 30 → iF (wI A r j y) 30 8 = iF A 30 8 := fun A r j y hr => wIq (fun q => hr q.symm)
    have w4 : ∀ (A : zHp) (r j : Nat) (y : Int), r ≠ 30 → iF (wI A r j y) 30 4 = iF A 30 4 := fun A r j y hr => wIq (fun q => hr q.symm)
    have w5 : ∀ (A : zHp) (r j : Nat) (y : Int), r ≠ 30 → iF (wI A r j y) 30 5 = iF A 30 5 := fun A r j y hr => wIq (fun q => hr q.symm)
    have p5 : iF P 30 5 = (bt.length : Int) := (hI 30 5 (by decide) (by decide) (by decide) (by decide)).trans a4.1
    have hP5 := hF.mSh h
    unfold cmt
    generalize hK : (fun M196 => (gI M196 8 30 5).bind fun x197 => (pI M196 8 30 5 0).bind fun M199 => some (x197, M199)) = K at s1
    simp only [↓gI_b, ↓gR_b, ↓pI_b, ↓pZ_b, ↓pR_b, ↓ldI_b, ↓ldR_b, ↓stI_b, ↓stZ_b, ↓stR_b, zk_eq, sh_wI, sh_wR, rF_wI, iF_wR, ms30 h, ms31 h, ms32 h, ms33 h, ms34 h, ms35 h, ms36 h, ms37 h, ms38 h, ms39 h, ms40 h, ms41 h, ms42 h, ms43 h, ms44 h, ms45 h, ms46 h, ms47 h, ms48 h, ms49 h, ms50 h, mr0 h, mr1 h, mr2 h, mr3 h, mr4 h, mr5 h, mr6 h, mr7 h, mr8 h, mr9 h, mr10 h, mr11 h, mr12 h, mr13 h, mr14 h, mr15 h, mr16 h, mr17 h, mr18 h, mr19 h, true_and, and_true, and_self, ↓reduceIte, Int.toNat_natCast, Int.natCast_nonneg, Nat.reduceLT, Nat.reduceLeDiff, Nat.reduceEqDiff, ne_eq, not_false_eq_true, Nat.reduceAdd, reduceCtorEq, Int.reduceLT, Int.reduceLE, Int.reduceToNat, a4.1, a7.1, a2, ↓zb2_of hnh, hb01, e1, hun, w8 _ 50 _ _ (by decide), w8 _ 48 _ _ (by decide), w8 _ 49 _ _ (by decide), w4 _ 50 _ _ (by decide), w5 _ 50 _ _ (by decide), w5 _ 48 _ _ (by decide), e2, e3, e4, hP, p5, ms30 hP5, ↓zb2_of r1]
    refine s1.trans ?_
    simp only [↓gI_b, ↓gR_b, ↓pI_b, ↓pZ_b, ↓pR_b, ↓ldI_b, ↓ldR_b, ↓stI_b, ↓stZ_b, ↓stR_b, zk_eq, sh_wI, sh_wR, rF_wI, iF_wR, ms30 hQs, true_and, and_true, and_self, ↓reduceIte, Int.toNat_natCast, Int.natCast_nonneg, Nat.reduceLT, Nat.reduceLeDiff, Nat.reduceEqDiff, ne_eq, not_false_eq_true, Nat.reduceAdd, reduceCtorEq, Int.reduceLT, Int.reduceLE, Int.reduceToNat, b4.1]
  · obtain ⟨t, tG, c1, c2, c3, c4, c5, c6, c7⟩ := mA_iff.mp s3
    exact mA_iff.mpr ⟨mSh_wI t, RG_wI tG rg0, (hJ 30 0 (by decide)).trans c1, (hJ 30 4 (by decide)).trans c2, (hJ 30 9 (by decide)).trans c3, ⟨by rw [wI30s t (by decide)]; rfl, fun j b hb => by simp at hb⟩, c5.cg (fun j => hJ 45 j (by simp)) (fun j => hJ 46 j (by simp)), c6.cg (hJ 30 6 (by decide)) (hJ 30 7 (by decide)) (fun j => hJ 47 j (by simp)), c7.cg (hJ 30 8 (by decide)) (fun j => hJ 48 j (by simp)) (fun j => hJ 49 j (by simp)) (fun j => hJ 50 j (by simp))⟩
  · have e0 : (rec1 (vs ++ [u]) bt.length).2 + ((([] : List Bt).length : Nat) : Int) = (rec1 (vs ++ [u]) bt.length).2 := by simp
    rw [e0] at s4
    refine mB.cg (M := Q) ?_ (hJ 30 1 (by decide)) (hJ 30 2 (by decide)) (hJ 30 3 (by decide)) (fun q j h1 h2 => hJ q j (by omega))
    exact s4
/-- what a commit finds: the memtable and levels behind the flush that it may do first -/
theorem m_commit (hA : mA time sn bt seen pr tl (vs ++ [u]) un M) (hB : mB N sn mem l0 l1 l2 M) (hW : btW bt) (hN : N + bt.length ≤ 520) (hun : un.length < 16) (ht : 0 ≤ time ∧ time ≤ 1000000) (htl : 0 ≤ tl ∧ tl + vs.length ≤ 100000) (hu : 0 ≤ u ∧ u ≤ 16) (hl2 : vs.length ≤ 7) (h4 : l0.length ≤ 4) :
    (bt = [] → f_Md_commit 30 M = some (-2, M)) ∧
    (bt ≠ [] → (16 < u + 1 + bt.length ∧ vs.length = 7) → f_Md_commit 30 M = some (-3, M)) ∧
    (bt ≠ [] → ¬ (16 < u + 1 + bt.length ∧ vs.length = 7) → ∃ Q, f_Md_commit 30 M = some ((bt.length : Int), Q) ∧ mFr M Q ∧
      mA time (sn + bt.length) [] seen pr tl (rec1 (vs ++ [u]) bt.length).1 ((if 8 < mem.length + bt.length then [] else un) ++ [(sn + 1, 1 + (bt.length : Int), if 16 < u + 1 + (bt.length : Int) then (1 : Int) else 0)]) Q ∧
      mB (N + bt.length) (sn + bt.length) ((if 8 < mem.length + bt.length then [] else mem) ++ bte time sn (tl + ((rec1 (vs ++ [u]) bt.length).1.length : Nat) - 1) (rec1 (vs ++ [u]) bt.length).2 bt) (if 8 < mem.length + bt.length then (fl0 time seen mem l0 l1 l2).1 else l0) (if 8 < mem.length + bt.length then (fl0 time seen mem l0 l1 l2).2.1 else l1) (if 8 < mem.length + bt.length then (fl0 time seen mem l0 l1 l2).2.2 else l2) Q) := by
  have hble := hW.1
  have hn : (0 : Int) ≤ bt.length ∧ (bt.length : Int) ≤ 600 := by omega
  have hnh := m_needsHead hA htl (by omega) hn
  obtain ⟨h, hG, a1, a2, a3, a4, a5, a6, a7⟩ := mA_iff.mp hA
  have hsz := hB.C.size hA (k := -1) rgm1
  have hlen : (lvE M N (-1)).length = mem.length := hB.2.2.2.2.2.2.1.length_eq.symm
  have hml : mem.length ≤ N := by rw [← hlen]; exact ent_le
  rw [hlen] at hsz
  have e1 := zeq_iff (x := (bt.length : Int)) (y := 0) (rgN (by omega)) rg0
  have e2 : zadd (mem.length : Int) (bt.length : Int) = mem.length + bt.length := zadd_eq (by omega) (by omega)
  have e3 := zle_iff (x := (mem.length : Int) + bt.length) (y := 8) (by unfold rg; omega) (by unfold rg; omega)
  have e4 : zsub (tl + vs.length) tl = vs.length := by rw [zsub_eq (by omega) (by omega)]; omega
  have e5 : zadd (vs.length : Int) 1 = vs.length + 1 := zadd_eq (by omega) (by omega)
  have e6 := zlt_iff (x := (vs.length : Int) + 1) (y := 8) (by unfold rg; omega) (by unfold rg; omega)
  obtain ⟨u7, u47⟩ := a6.last
  have z0 : zeq 0 0 := rfl
  have z1 : ¬ zeq 1 0 := by decide
  refine ⟨?_, ?_, ?_⟩
  · intro hb
    rw [cmt_eq]
    have : zeq (bt.length : Int) 0 := by rw [hb]; rfl
    simp only [↓gI_b, ↓gR_b, ↓pI_b, ↓pZ_b, ↓pR_b, ↓ldI_b, ↓ldR_b, ↓stI_b, ↓stZ_b, ↓stR_b, zk_eq, sh_wI, sh_wR, rF_wI, iF_wR, ms30 h, true_and, and_true, and_self, ↓reduceIte, Int.toNat_natCast, Int.natCast_nonneg, Nat.reduceLT, Nat.reduceLeDiff, Nat.reduceEqDiff, ne_eq, not_false_eq_true, Nat.reduceAdd, reduceCtorEq, Int.reduceLT, Int.reduceLE, Int.reduceToNat, a4.1, eq_true this]
  · intro hb hc
    rw [cmt_eq]
    have hb1 : bt.length ≠ 0 := fun q => hb (List.length_eq_zero_iff.mp q)
    have g1 : ¬ zeq (bt.length : Int) 0 := fun q => by have := e1.mp q; omega
    rw [if_pos hc.1] at hnh
    have g2 : ¬ ((vs.length : Int) + 1 < 8) := by omega
    simp only [↓gI_b, ↓gR_b, ↓pI_b, ↓pZ_b, ↓pR_b, ↓ldI_b, ↓ldR_b, ↓stI_b, ↓stZ_b, ↓stR_b, zk_eq, sh_wI, sh_wR, rF_wI, iF_wR, ms30 h, true_and, and_true, and_self, ↓reduceIte, Int.toNat_natCast, Int.natCast_nonneg, Nat.reduceLT, Nat.reduceLeDiff, Nat.reduceEqDiff, ne_eq, not_false_eq_true, Nat.reduceAdd, reduceCtorEq, Int.reduceLT, Int.reduceLE, Int.reduceToNat, a4.1, g1, ↓zb2_of hnh, z1, u7, a6.1, e4, e5, e6, g2]
  · intro hb hc
    have hb1 : bt.length ≠ 0 := fun q => hb (List.length_eq_zero_iff.mp q)
    have g1 : ¬ zeq (bt.length : Int) 0 := fun q => by have := e1.mp q; omega
    have hl : 16 < u + 1 + bt.length → vs.length < 7 := fun q => by
      rcases Nat.lt_or_ge vs.length 7 with r | r
      · exact r
      · exact absurd ⟨q, by omega⟩ hc
    rw [cmt_eq]
    by_cases c8 : 8 < mem.length + bt.length
    · simp only [if_pos c8]
      have g3 : ¬ ((mem.length : Int) + bt.length ≤ 8) := by omega
      obtain ⟨F, f1, f2, f3, f4⟩ := m_flush hA hB h4
      have hmne : mem.isEmpty = false := by
        cases mem with
        | nil => simp at c8; omega
        | cons _ _ => rfl
      rw [hmne] at f3
      simp only [Bool.false_eq_true, if_false] at f3
      obtain ⟨Q, q1, q2, q3, q4⟩ := m_cmt f3 f4 hW hb hN (by decide) ht htl hu hl hl2
      refine ⟨Q, ?_, f2.tr q2, q3, q4⟩
      by_cases c : 16 < u + 1 + (bt.length : Int)
      · rw [if_pos c] at hnh
        have g2 : (vs.length : Int) + 1 < 8 := by have := hl c; omega
        simp only [↓gI_b, ↓gR_b, ↓pI_b, ↓pZ_b, ↓pR_b, ↓ldI_b, ↓ldR_b, ↓stI_b, ↓stZ_b, ↓stR_b, zk_eq, sh_wI, sh_wR, rF_wI, iF_wR, ms30 h, true_and, and_true, and_self, ↓reduceIte, Int.toNat_natCast, Int.natCast_nonneg, Nat.reduceLT, Nat.reduceLeDiff, Nat.reduceEqDiff, ne_eq, not_false_eq_true, Nat.reduceAdd, reduceCtorEq, Int.reduceLT, Int.reduceLE, Int.reduceToNat, a4.1, g1, ↓zb2_of hnh, z1, u7, a6.1, e4, e5, e6, g2, ↓zb2_of hsz, e2, e3, g3, ↓bnd_of f1, q1]
      · rw [if_neg c] at hnh
        simp only [↓gI_b, ↓gR_b, ↓pI_b, ↓pZ_b, ↓pR_b, ↓ldI_b, ↓ldR_b, ↓stI_b, ↓stZ_b, ↓stR_b, zk_eq, sh_wI, sh_wR, rF_wI, iF_wR, ms30 h, true_and, and_true, and_self, ↓reduceIte, Int.toNat_natCast, Int.natCast_nonneg, Nat.reduceLT, Nat.reduceLeDiff, Nat.reduceEqDiff, ne_eq, not_false_eq_true, Nat.reduceAdd, reduceCtorEq, Int.reduceLT, Int.reduceLE, Int.reduceToNat, a4.1, g1, ↓zb2_of hnh, z0, ↓zb2_of hsz, e2, e3, g3, ↓bnd_of f1, q1]
    · simp only [if_neg c8]
      have g3 : (mem.length : Int) + bt.length ≤ 8 := by omega
      obtain ⟨Q, q1, q2, q3, q4⟩ := m_cmt hA hB hW hb hN hun ht htl hu hl hl2
      refine ⟨Q, ?_, q2, q3, q4⟩
      by_cases c : 16 < u + 1 + (bt.length : Int)
      · rw [if_pos c] at hnh
        have g2 : (vs.length : Int) + 1 < 8 := by have := hl c; omega
        simp only [↓gI_b, ↓gR_b, ↓pI_b, ↓pZ_b, ↓pR_b, ↓ldI_b, ↓ldR_b, ↓stI_b, ↓stZ_b, ↓stR_b, zk_eq, sh_wI, sh_wR, rF_wI, iF_wR, ms30 h, true_and, and_true, and_self, ↓reduceIte, Int.toNat_natCast, Int.natCast_nonneg, Nat.reduceLT, Nat.reduceLeDiff, Nat.reduceEqDiff, ne_eq, not_false_eq_true, Nat.reduceAdd, reduceCtorEq, Int.reduceLT, Int.reduceLE, Int.reduceToNat, a4.1, g1, ↓zb2_of hnh, z1, u7, a6.1, e4, e5, e6, g2, ↓zb2_of hsz, e2, e3, g3, q1]
      · rw [if_neg c] at hnh
        simp only [↓gI_b, ↓gR_b, ↓pI_b, ↓pZ_b, ↓pR_b, ↓ldI_b, ↓ldR_b, ↓stI_b, ↓stZ_b, ↓stR_b, zk_eq, sh_wI, sh_wR, rF_wI, iF_wR, ms30 h, true_and, and_true, and_self, ↓reduceIte, Int.toNat_natCast, Int.natCast_nonneg, Nat.reduceLT, Nat.reduceLeDiff, Nat.reduceEqDiff, ne_eq, not_false_eq_true, Nat.reduceAdd, reduceCtorEq, Int.reduceLT, Int.reduceLE, Int.reduceToNat, a4.1, g1, ↓zb2_of hnh, z0, ↓zb2_of hsz, e2, e3, g3, q1]
end MD16
