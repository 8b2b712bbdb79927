-- new entries
theorem ent_s {M P : zHp} {N : Nat} {p q : Nat → Bool} (h1 : ∀ e, e < N → p e = q e) (h2 : ∀ e, e < N → me P e = me M e) : ent P (N + 1) p = ent M N q ++ (if p N = true then [me P N] else []) := by
  unfold ent
  rw [List.range_succ, List.filter_append, List.map_append]
  congr 1
  · exact ent_cg h1 (fun e he _ => h2 e he)
  · cases hp : p N with
    | true => simp [hp]
    | false => simp [hp]
/-- an entry laid at the place N -/
def nE (M : zHp) (N : Nat) (k s d v x l g c : Int) : zHp := wI (wI (wI (wI (wI (wI (wI (wI (wI (wI M 30 4 s) 30 1 ((N + 1 : Nat) : Int)) 31 N k) 32 N s) 34 N d) 33 N v) 35 N x) 36 N l) 38 N g) 39 N c
section MD14
variable {M : zHp} {N : Nat} {k s d v x l g c : Int}
theorem nE_q (h : mSh M) (hN : N < 520) (q j : Nat) : iF (nE M N k s d v x l g c) q j =
    if q = 30 ∧ j = 4 then s else if q = 30 ∧ j = 1 then ((N + 1 : Nat) : Int) else if q = 31 ∧ j = N then k else if q = 32 ∧ j = N then s else if q = 34 ∧ j = N then d else if q = 33 ∧ j = N then v else if q = 35 ∧ j = N then x else if q = 36 ∧ j = N then l else if q = 38 ∧ j = N then g else if q = 39 ∧ j = N then c else iF M q j := by
  unfold nE
  simp only [iF_wI, sh_wI, ms30 h, ms31 h, ms32 h, ms33 h, ms34 h, ms35 h, ms36 h, ms37 h, ms38 h, ms39 h, ms40 h, ms41 h, ms42 h, ms43 h, ms44 h, ms45 h, ms46 h, ms47 h, ms48 h, ms49 h, ms50 h, mr0 h, mr1 h, mr2 h, mr3 h, mr4 h, mr5 h, mr6 h, mr7 h, mr8 h, mr9 h, mr10 h, mr11 h, mr12 h, mr13 h, mr14 h, mr15 h, mr16 h, mr17 h, mr18 h, mr19 h]
  by_cases c30 : q = 30
  · subst c30
    by_cases c4 : j = 4
    · subst c4; simp
    · by_cases c1 : j = 1
      · subst c1; simp
      · simp [c4, c1]
  · by_cases cN : j = N
    · subst cN
      by_cases d1 : q = 31
      · subst d1; simp [hN]
      by_cases d2 : q = 32
      · subst d2; simp [hN]
      by_cases d3 : q = 34
      · subst d3; simp [hN]
      by_cases d4 : q = 33
      · subst d4; simp [hN]
      by_cases d5 : q = 35
      · subst d5; simp [hN]
      by_cases d6 : q = 36
      · subst d6; simp [hN]
      by_cases d7 : q = 38
      · subst d7; simp [hN]
      by_cases d8 : q = 39
      · subst d8; simp [hN]
      simp [c30, d1, d2, d3, d4, d5, d6, d7, d8]
    · simp [c30, cN]
theorem nE_fr : mFr M (nE M N k s d v x l g c) := by
  unfold nE
  exact (((((((((mFr.wI M (by decide) (by decide)).tr (mFr.wI _ (by decide) (by decide))).tr (mFr.wI _ (by decide) (by decide))).tr (mFr.wI _ (by decide) (by decide))).tr (mFr.wI _ (by decide) (by decide))).tr (mFr.wI _ (by decide) (by decide))).tr (mFr.wI _ (by decide) (by decide))).tr (mFr.wI _ (by decide) (by decide))).tr (mFr.wI _ (by decide) (by decide))).tr (mFr.wI _ (by decide) (by decide))
theorem nE_rg (hG : RG M) (hN : N < 520) (h1 : rg k) (h2 : rg s) (h3 : rg d) (h4 : rg v) (h5 : rg x) (h6 : rg l) (h7 : rg g) (h8 : rg c) : RG (nE M N k s d v x l g c) := by
  unfold nE
  exact RG_wI (RG_wI (RG_wI (RG_wI (RG_wI (RG_wI (RG_wI (RG_wI (RG_wI (RG_wI hG h2) (rgN (by omega))) h1) h2) h3) h4) h5) h6) h7) h8
/-- an entry comes to the memtable -/
theorem nE_B {sn : Int} {mem : List En} {l0 : List (List En)} {l1 l2 : List En} (h : mSh M) (hB : mB N sn mem l0 l1 l2 M) (hN : N < 520) (hk : 0 ≤ k ∧ k < 32) (hd : d = 0 ∨ d = 1) (hx : 0 ≤ x) : mB (N + 1) (sn + 1) (mem ++ [if d = 0 then (k, sn + 1, 0, if x = 0 then -1 else x, v, g, c) else (k, sn + 1, 1, -1, 0, 0, 0)]) l0 l1 l2 (nE M N k (sn + 1) d v x (-1) g c) := by
  obtain ⟨b1, b2, b3, b4, b5, b6, b7, b8, b9, b10, b11, b12, b13, b14, b15⟩ := hB
  generalize hP : nE M N k (sn + 1) d v x (-1) g c = P
  have hq := fun q j => nE_q (k := k) (s := sn + 1) (d := d) (v := v) (x := x) (l := -1) (g := g) (c := c) h hN q j
  rw [hP] at hq
  have old : ∀ q e, 31 ≤ q → q ≤ 39 → e < N → iF P q e = iF M q e := fun q e h1 h2 he => by
    rw [hq, if_neg (by omega), if_neg (by omega), if_neg (by omega), if_neg (by omega), if_neg (by omega), if_neg (by omega), if_neg (by omega), if_neg (by omega), if_neg (by omega), if_neg (by omega)]
  have p2 : iF P 30 2 = iF M 30 2 := by rw [hq]; simp
  have p3 : iF P 30 3 = iF M 30 3 := by rw [hq]; simp
  have p1 : iF P 30 1 = ((N + 1 : Nat) : Int) := by rw [hq]; simp
  have n31 : iF P 31 N = k := by rw [hq]; simp
  have n32 : iF P 32 N = sn + 1 := by rw [hq]; simp
  have n33 : iF P 33 N = v := by rw [hq]; simp
  have n34 : iF P 34 N = d := by rw [hq]; simp
  have n35 : iF P 35 N = x := by rw [hq]; simp
  have n36 : iF P 36 N = -1 := by rw [hq]; simp
  have n38 : iF P 38 N = g := by rw [hq]; simp
  have n39 : iF P 39 N = c := by rw [hq]; simp
  have hme : ∀ e, e < N → me P e = me M e := fun e he => by
    unfold me
    rw [old 34 e (by decide) (by decide) he, old 31 e (by decide) (by decide) he, old 32 e (by decide) (by decide) he, old 35 e (by decide) (by decide) he, old 33 e (by decide) (by decide) he, old 38 e (by decide) (by decide) he, old 39 e (by decide) (by decide) he]
  have hmN : me P N = if d = 0 then (k, sn + 1, 0, if x = 0 then -1 else x, v, g, c) else (k, sn + 1, 1, -1, 0, 0, 0) := by
    unfold me
    rw [n31, n32, n33, n34, n35, n38, n39]
  have h36 : ∀ e, e < N → iF P 36 e = iF M 36 e := fun e he => old 36 e (by decide) (by decide) he
  have hlv : ∀ j : Int, lvE P (N + 1) j = lvE M N j ++ (if ((-1 : Int) == j) = true then [me P N] else []) := by
    intro j
    unfold lvE
    rw [ent_s (M := M) (q := fun e => iF M 36 e == j) (fun e he => by rw [h36 e he]) hme, n36]
  have hlt : ∀ e, e < N + 1 → e < N ∨ e = N := fun e he => by omega
  refine ⟨p1, by omega, by omega, by omega, ?_, ?_, ?_, ?_, ?_, by rw [p3]; exact b10, ?_, ?_, ?_, by rw [p2]; exact b14, ?_⟩
  · intro e he
    rcases hlt e he with he | rfl
    · rw [old 34 e (by decide) (by decide) he, old 35 e (by decide) (by decide) he, old 32 e (by decide) (by decide) he, old 31 e (by decide) (by decide) he, h36 e he]
      obtain ⟨w1, w2, w3, w4, w5, w6⟩ := b5 e he
      refine ⟨w1, w2, w3, w4, w5, ?_⟩
      rcases w6 with q | q
      · exact Or.inl q
      · exact Or.inr ⟨by omega, q.2⟩
    · rw [n34, n35, n32, n31, n36]
      exact ⟨hd, hx, by omega, hk.1, hk.2, Or.inr ⟨Int.le_refl _, Or.inl rfl⟩⟩
  · intro e f he hf h1 h2 h3
    rcases hlt e he with he | rfl <;> rcases hlt f hf with hf | rfl
    · rw [h36 e he] at h1
      rw [h36 f hf] at h2
      rw [old 32 e (by decide) (by decide) he, old 32 f (by decide) (by decide) hf] at h3
      exact b6 e f he hf h1 h2 h3
    · rw [h36 e he] at h1
      rw [old 32 e (by decide) (by decide) he, n32] at h3
      rcases (b5 e he).2.2.2.2.2 with q | q
      · exact absurd q h1
      · omega
    · rw [h36 f hf] at h2
      rw [old 32 f (by decide) (by decide) hf, n32] at h3
      rcases (b5 f hf).2.2.2.2.2 with q | q
      · exact absurd q h2
      · omega
    · rfl
  · rw [← hmN, hlv, if_pos (show ((-1 : Int) == -1) = true by decide)]
    exact b7.append_right _
  · rw [hlv, if_neg (show ¬ ((-1 : Int) == 1) = true by decide), List.append_nil]; exact b8
  · rw [hlv, if_neg (show ¬ ((-1 : Int) == 2) = true by decide), List.append_nil]; exact b9
  · intro j t ht
    have : tb0 P (N + 1) j = tb0 M N j := by
      unfold tb0
      rw [ent_s (M := M) (q := fun e => iF M 36 e == 0 && iF M 30 2 - iF M 37 e == (j : Int)) (fun e he => by rw [h36 e he, p2, old 37 e (by decide) (by decide) he]) hme, n36, if_neg (by simp), List.append_nil]
    rw [this]
    exact b11 j t ht
  · intro e he h0
    rcases hlt e he with he | rfl
    · rw [h36 e he] at h0
      rw [p2, old 37 e (by decide) (by decide) he]
      exact b12 e he h0
    · rw [n36] at h0; omega
  · intro e he h0
    rcases hlt e he with he | rfl
    · rw [h36 e he] at h0
      rw [old 37 e (by decide) (by decide) he, b13 e he h0]
      congr 1
      unfold rnk
      rw [cnt_s, n36, h36 e he]
      have e1 : ¬ ((-1 : Int) = iF M 36 e) := by omega
      rw [if_neg (by simp [e1]), Nat.add_zero]
      apply cnt_cg
      intro f hf
      rw [h36 f hf, hme f hf, hme e he]
    · rw [n36] at h0; omega
  · rw [p2]; simp; omega
end MD14
section MD15
variable {M : zHp} {N : Nat} {time sn : Int} {bt : List Bt} {seen : List Int} {pr tl : Int} {us : List Int} {un : List Un} {mem : List En} {l0 : List (List En)} {l1 l2 : List En}
theorem nE_A {k d v x g c : Int} (hA : mA time sn bt seen pr tl us un M) (hN : N < 520) (h1 : rg k) (hs : rg (sn + 1)) (h3 : rg d) (h4 : rg v) (h5 : rg x) (h7 : rg g) (h8 : rg c) : mA time (sn + 1) bt seen pr tl us un (nE M N k (sn + 1) d v x (-1) g c) := by
  obtain ⟨h, hG, a1, a2, a3, a4, a5, a6, a7⟩ := mA_iff.mp hA
  have hq := fun q j => nE_q (k := k) (s := sn + 1) (d := d) (v := v) (x := x) (l := -1) (g := g) (c := c) h hN q j
  have ho : ∀ q j, 42 ≤ q → iF (nE M N k (sn + 1) d v x (-1) g c) q j = iF M q j := fun q j h1 => by
    rw [hq, if_neg (by omega), if_neg (by omega), if_neg (by omega), if_neg (by omega), if_neg (by omega), if_neg (by omega), if_neg (by omega), if_neg (by omega), if_neg (by omega), if_neg (by omega)]
  have h30 : ∀ j, j ≠ 4 → j ≠ 1 → iF (nE M N k (sn + 1) d v x (-1) g c) 30 j = iF M 30 j := fun j h1 h2 => by rw [hq]; simp [h1, h2]
  exact mA_iff.mpr ⟨nE_fr.mSh h, nE_rg hG hN h1 hs h3 h4 h5 rgm1 h7 h8, (h30 0 (by decide) (by decide)).trans a1, by rw [hq]; simp, (h30 9 (by decide) (by decide)).trans a3, a4.cg (h30 5 (by decide) (by decide)) (fun j => ho 42 j (by decide)) (fun j => ho 43 j (by decide)) (fun j => ho 44 j (by decide)), a5.cg (fun j => ho 45 j (by decide)) (fun j => ho 46 j (by decide)), a6.cg (h30 6 (by decide) (by decide)) (h30 7 (by decide) (by decide)) (fun j => ho 47 j (by decide)), a7.cg (h30 8 (by decide) (by decide)) (fun j => ho 48 j (by decide)) (fun j => ho 49 j (by decide)) (fun j => ho 50 j (by decide))⟩
/-- one turn of commit's loop -/
theorem ml_commit1 (hA : mA time sn bt seen pr tl us un M) (hN1 : iF M 30 1 = (N : Int)) (hN : N < 520) (hsn : 0 ≤ sn ∧ sn ≤ 100000) (ht : 0 ≤ time ∧ time ≤ 1000000) {j : Nat} {k v life : Int} (hj : bt[j]? = some (k, v, life)) (hl : -1 ≤ life ∧ life ≤ 1000) (hb : bt.length ≤ 6) {a1 : Int} (ha : 0 ≤ a1 ∧ a1 ≤ 1000) (κ : zHp → Option (Int × zHp)) (n : Nat) :
    f_Md_commit_L127 κ 30 a1 (n + 1) (j : Int) M = f_Md_commit_L127 κ 30 a1 n ((j + 1 : Nat) : Int) (nE M N k (sn + 1) (if life < 0 then 1 else 0) v (if 0 < life then time + life else 0) (-1) (iF M 30 7) (a1 + j)) := by
  obtain ⟨h, hG, b1, b2, b3, b4, b5, b6, b7⟩ := mA_iff.mp hA
  have hjl : j < bt.length := (List.getElem?_eq_some_iff.mp hj).1
  have hv := b4.2 j _ hj
  have e42 : iF M 42 j = k := (congrArg (fun q : Bt => q.1) hv).symm
  have e43 : iF M 43 j = v := (congrArg (fun q : Bt => q.2.1) hv).symm
  have e44 : iF M 44 j = life := (congrArg (fun q : Bt => q.2.2) hv).symm
  have e1 : ¬ zle (bt.length : Int) (j : Int) := fun q => by have := (zle_iff (rgN (by omega)) (rgN (by omega))).mp q; omega
  have e2 : (j : Int) < 4096 := by omega
  have e3 : j < 6 := by omega
  have e4 : (N : Int) < 4096 := by omega
  have e5 := zaddN (i := j) (by omega)
  have e6 : zadd sn 1 = sn + 1 := zadd_eq (by omega) (by omega)
  have e7 := zaddN (i := N) (by omega)
  have e8 : zadd a1 (j : Int) = a1 + j := zadd_eq (by omega) (by omega)
  have e9 := zle_iff (x := 0) (y := life) rg0 (by unfold rg; omega)
  have e10 := zle_iff (x := life) (y := 0) (by unfold rg; omega) rg0
  have w4 : ∀ (A : zHp) (r j : Nat) (y : Int), r ≠ 30 → iF (wI A r j y) 30 4 = iF A 30 4 := fun A r j y hr => wIq (fun q => hr q.symm)
  have w0 : ∀ (A : zHp) (r j : Nat) (y : Int), r ≠ 30 → iF (wI A r j y) 30 0 = iF A 30 0 := fun A r j y hr => wIq (fun q => hr q.symm)
  have w7 : ∀ (A : zHp) (r j : Nat) (y : Int), r ≠ 30 → iF (wI A r j y) 30 7 = iF A 30 7 := fun A r j y hr => wIq (fun q => hr q.symm)
  have wq : ∀ (A : zHp) (r j q i : Nat) (y : Int), q ≠ r → iF (wI A r j y) q i = iF A q i := fun A r j q i y hr => wIq hr
  have s4 : iF (wI (wI M 30 4 (sn + 1)) 30 1 ((N + 1 : Nat) : Int)) 30 4 = sn + 1 := by rw [wI30 (by decide), wI30s h (by decide)]
  have s1 : iF (wI M 30 4 (sn + 1)) 30 1 = (N : Int) := by rw [wI30 (by decide)]; exact hN1
  have s0 : iF (wI (wI M 30 4 (sn + 1)) 30 1 ((N + 1 : Nat) : Int)) 30 0 = time := by rw [wI30 (by decide), wI30 (by decide)]; exact b1
  have s7 : iF (wI (wI M 30 4 (sn + 1)) 30 1 ((N + 1 : Nat) : Int)) 30 7 = iF M 30 7 := by rw [wI30 (by decide), wI30 (by decide)]
  have ne42 : ∀ r, r ≠ 42 → r ≠ 43 → r ≠ 44 → True := fun _ _ _ _ => trivial
  conv => lhs; unfold f_Md_commit_L127
  by_cases c1 : 0 ≤ life
  · by_cases c2 : life ≤ 0
    · have d1 : ¬ life < 0 := by omega
      have d2 : ¬ 0 < life := by omega
      simp only [↓gI_b, ↓gR_b, ↓pI_b, ↓pZ_b, ↓pR_b, ↓ldI_b, ↓ldR_b, ↓stI_b, ↓stZ_b, ↓stR_b, zk_eq, sh_wI, sh_wR, rF_wI, iF_wR, ms30 h, ms31 h, ms32 h, ms33 h, ms34 h, ms35 h, ms36 h, ms37 h, ms38 h, ms39 h, ms40 h, ms41 h, ms42 h, ms43 h, ms44 h, ms45 h, ms46 h, ms47 h, ms48 h, ms49 h, ms50 h, mr0 h, mr1 h, mr2 h, mr3 h, mr4 h, mr5 h, mr6 h, mr7 h, mr8 h, mr9 h, mr10 h, mr11 h, mr12 h, mr13 h, mr14 h, mr15 h, mr16 h, mr17 h, mr18 h, mr19 h, true_and, and_true, and_self, ↓reduceIte, Int.toNat_natCast, Int.natCast_nonneg, Nat.reduceLT, Nat.reduceLeDiff, Nat.reduceEqDiff, ne_eq, not_false_eq_true, Nat.reduceAdd, reduceCtorEq, Int.reduceLT, Int.reduceLE, Int.reduceToNat, b4.1, e1, e2, e3, e4, hN, b2, e6, s1, e7, s4, s0, s7, w4 _ 31 _ _ (by decide), w4 _ 32 _ _ (by decide), w7 _ 31 _ _ (by decide), w7 _ 32 _ _ (by decide), w7 _ 33 _ _ (by decide), w7 _ 34 _ _ (by decide), w7 _ 35 _ _ (by decide), w7 _ 36 _ _ (by decide), w7 _ 38 _ _ (by decide), wq _ 30 _ 42 _ _ (by decide), wq _ 30 _ 43 _ _ (by decide), wq _ 30 _ 44 _ _ (by decide), wq _ 31 _ 43 _ _ (by decide), wq _ 31 _ 44 _ _ (by decide), wq _ 32 _ 43 _ _ (by decide), wq _ 32 _ 44 _ _ (by decide), wq _ 34 _ 43 _ _ (by decide), wq _ 34 _ 44 _ _ (by decide), wq _ 33 _ 44 _ _ (by decide), e42, e43, e44, e9, c1, e10, c2, true_or, e8, e5, d1, d2]
      rfl
    · have d1 : ¬ life < 0 := by omega
      have d2 : 0 < life := by omega
      have e11 : zadd time life = time + life := zadd_eq (by omega) (by omega)
      simp only [↓gI_b, ↓gR_b, ↓pI_b, ↓pZ_b, ↓pR_b, ↓ldI_b, ↓ldR_b, ↓stI_b, ↓stZ_b, ↓stR_b, zk_eq, sh_wI, sh_wR, rF_wI, iF_wR, ms30 h, ms31 h, ms32 h, ms33 h, ms34 h, ms35 h, ms36 h, ms37 h, ms38 h, ms39 h, ms40 h, ms41 h, ms42 h, ms43 h, ms44 h, ms45 h, ms46 h, ms47 h, ms48 h, ms49 h, ms50 h, mr0 h, mr1 h, mr2 h, mr3 h, mr4 h, mr5 h, mr6 h, mr7 h, mr8 h, mr9 h, mr10 h, mr11 h, mr12 h, mr13 h, mr14 h, mr15 h, mr16 h, mr17 h, mr18 h, mr19 h, true_and, and_true, and_self, ↓reduceIte, Int.toNat_natCast, Int.natCast_nonneg, Nat.reduceLT, Nat.reduceLeDiff, Nat.reduceEqDiff, ne_eq, not_false_eq_true, Nat.reduceAdd, reduceCtorEq, Int.reduceLT, Int.reduceLE, Int.reduceToNat, b4.1, e1, e2, e3, e4, hN, b2, e6, s1, e7, s4, s0, s7, w4 _ 31 _ _ (by decide), w4 _ 32 _ _ (by decide), w0 _ 31 _ _ (by decide), w0 _ 32 _ _ (by decide), w0 _ 34 _ _ (by decide), w0 _ 33 _ _ (by decide), w7 _ 31 _ _ (by decide), w7 _ 32 _ _ (by decide), w7 _ 33 _ _ (by decide), w7 _ 34 _ _ (by decide), w7 _ 35 _ _ (by decide), w7 _ 36 _ _ (by decide), w7 _ 38 _ _ (by decide), wq _ 30 _ 42 _ _ (by decide), wq _ 30 _ 43 _ _ (by decide), wq _ 30 _ 44 _ _ (by decide), wq _ 31 _ 43 _ _ (by decide), wq _ 31 _ 44 _ _ (by decide), wq _ 32 _ 43 _ _ (by decide), wq _ 32 _ 44 _ _ (by decide), wq _ 34 _ 43 _ _ (by decide), wq _ 34 _ 44 _ _ (by decide), wq _ 33 _ 44 _ _ (by decide), e42, e43, e44, e9, c1, e10, c2, true_or, e8, e5, e11, d1, d2]
      rfl
  · have c2 : life ≤ 0 := by omega
    have d1 : life < 0 := by omega
    have d2 : ¬ 0 < life := by omega
    simp only [↓gI_b, ↓gR_b, ↓pI_b, ↓pZ_b, ↓pR_b, ↓ldI_b, ↓ldR_b, ↓stI_b, ↓stZ_b, ↓stR_b, zk_eq, sh_wI, sh_wR, rF_wI, iF_wR, ms30 h, ms31 h, ms32 h, ms33 h, ms34 h, ms35 h, ms36 h, ms37 h, ms38 h, ms39 h, ms40 h, ms41 h, ms42 h, ms43 h, ms44 h, ms45 h, ms46 h, ms47 h, ms48 h, ms49 h, ms50 h, mr0 h, mr1 h, mr2 h, mr3 h, mr4 h, mr5 h, mr6 h, mr7 h, mr8 h, mr9 h, mr10 h, mr11 h, mr12 h, mr13 h, mr14 h, mr15 h, mr16 h, mr17 h, mr18 h, mr19 h, true_and, and_true, and_self, ↓reduceIte, Int.toNat_natCast, Int.natCast_nonneg, Nat.reduceLT, Nat.reduceLeDiff, Nat.reduceEqDiff, ne_eq, not_false_eq_true, Nat.reduceAdd, reduceCtorEq, Int.reduceLT, Int.reduceLE, Int.reduceToNat, b4.1, e1, e2, e3, e4, hN, b2, e6, s1, e7, s4, s0, s7, w4 _ 31 _ _ (by decide), w4 _ 32 _ _ (by decide), w7 _ 31 _ _ (by decide), w7 _ 32 _ _ (by decide), w7 _ 33 _ _ (by decide), w7 _ 34 _ _ (by decide), w7 _ 35 _ _ (by decide), w7 _ 36 _ _ (by decide), w7 _ 38 _ _ (by decide), wq _ 30 _ 42 _ _ (by decide), wq _ 30 _ 43 _ _ (by decide), wq _ 30 _ 44 _ _ (by decide), wq _ 31 _ 43 _ _ (by decide), wq _ 31 _ 44 _ _ (by decide), wq _ 32 _ 43 _ _ (by decide), wq _ 32 _ 44 _ _ (by decide), wq _ 34 _ 43 _ _ (by decide), wq _ 34 _ 44 _ _ (by decide), wq _ 33 _ 44 _ _ (by decide), e42, e43, e44, e9, c1, e10, c2, or_true, e8, e5, d1, d2]
    rfl
end MD15
