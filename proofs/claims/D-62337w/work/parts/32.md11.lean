section MD12
variable {M : zHp} {N : Nat} {time sn : Int} {bt : List Bt} {seen : List Int} {pr tl : Int} {us : List Int} {un : List Un} {mem : List En} {l0 : List (List En)} {l1 l2 : List En}
theorem m_put (hA : mA time sn bt seen pr tl us un M) (hb : bt.length ≤ 6) {k v life : Int} (hk : rg k) (hv : rg v) (hl : rg life) : ∃ Q, f_Md_put 30 k v life M = some (if isK k = false ∨ life < 0 ∨ 1000 < life then -1 else (rdy bt k v life).1, Q) ∧ mFr M Q ∧ mA time sn (if isK k = false ∨ life < 0 ∨ 1000 < life then bt else (rdy bt k v life).2) seen pr tl us un Q ∧ ∀ q k, ¬ (q = 30 ∧ k = 5) → q ≠ 42 → q ≠ 43 → q ≠ 44 → iF Q q k = iF M q k := by
  have h := hA.1
  have e1 := zlt_iff hl rg0
  have e2 := zle_iff (y := 1000) hl (by unfold rg; omega)
  have hK := m_isKey M hk
  have z0 : zeq 0 0 := rfl
  have z1 : ¬ zeq 1 0 := by decide
  unfold f_Md_put
  by_cases c0 : isK k = false
  · rw [if_pos (Or.inl c0), if_pos (Or.inl c0)]
    rw [c0] at hK
    simp only [Bool.false_eq_true, if_false] at hK
    refine ⟨M, ?_, mFr.rf M, hA, fun _ _ _ _ _ _ => rfl⟩
    simp only [↓gI_b, ↓gR_b, ↓pI_b, ↓pZ_b, ↓pR_b, ↓ldI_b, ↓ldR_b, ↓stI_b, ↓stZ_b, ↓stR_b, zk_eq, sh_wI, sh_wR, rF_wI, iF_wR, ms30 h, true_and, and_true, and_self, ↓reduceIte, Int.toNat_natCast, Int.natCast_nonneg, Nat.reduceLT, Nat.reduceLeDiff, Nat.reduceEqDiff, ne_eq, not_false_eq_true, Nat.reduceAdd, reduceCtorEq, Int.reduceLT, Int.reduceLE, Int.reduceToNat, ↓zb2_of hK, z0]
  have c0' : isK k = true := by simpa using c0
  rw [c0', if_pos rfl] at hK
  by_cases c1 : life < 0
  · rw [if_pos (Or.inr (Or.inl c1)), if_pos (Or.inr (Or.inl c1))]
    refine ⟨M, ?_, mFr.rf M, hA, fun _ _ _ _ _ _ => rfl⟩
    simp only [↓gI_b, ↓gR_b, ↓pI_b, ↓pZ_b, ↓pR_b, ↓ldI_b, ↓ldR_b, ↓stI_b, ↓stZ_b, ↓stR_b, zk_eq, sh_wI, sh_wR, rF_wI, iF_wR, ms30 h, true_and, and_true, and_self, ↓reduceIte, Int.toNat_natCast, Int.natCast_nonneg, Nat.reduceLT, Nat.reduceLeDiff, Nat.reduceEqDiff, ne_eq, not_false_eq_true, Nat.reduceAdd, reduceCtorEq, Int.reduceLT, Int.reduceLE, Int.reduceToNat, ↓zb2_of hK, z1, e1, c1]
  by_cases c2 : life ≤ 1000
  · have hn : ¬ (isK k = false ∨ life < 0 ∨ 1000 < life) := by
      rintro (q | q | q)
      · exact c0 q
      · omega
      · omega
    rw [if_neg hn, if_neg hn]
    obtain ⟨Q, h1, h2, h3, h4⟩ := m_add hA hb hk hv hl
    refine ⟨Q, ?_, h2, h3, h4⟩
    simp only [↓gI_b, ↓gR_b, ↓pI_b, ↓pZ_b, ↓pR_b, ↓ldI_b, ↓ldR_b, ↓stI_b, ↓stZ_b, ↓stR_b, zk_eq, sh_wI, sh_wR, rF_wI, iF_wR, ms30 h, true_and, and_true, and_self, ↓reduceIte, Int.toNat_natCast, Int.natCast_nonneg, Nat.reduceLT, Nat.reduceLeDiff, Nat.reduceEqDiff, ne_eq, not_false_eq_true, Nat.reduceAdd, reduceCtorEq, Int.reduceLT, Int.reduceLE, Int.reduceToNat, ↓zb2_of hK, z1, e1, c1, e2, c2, ↓zb2_of h1]
  · have hn : isK k = false ∨ life < 0 ∨ 1000 < life := by right; right; omega
    rw [if_pos hn, if_pos hn]
    refine ⟨M, ?_, mFr.rf M, hA, fun _ _ _ _ _ _ => rfl⟩
    simp only [↓gI_b, ↓gR_b, ↓pI_b, ↓pZ_b, ↓pR_b, ↓ldI_b, ↓ldR_b, ↓stI_b, ↓stZ_b, ↓stR_b, zk_eq, sh_wI, sh_wR, rF_wI, iF_wR, ms30 h, true_and, and_true, and_self, ↓reduceIte, Int.toNat_natCast, Int.natCast_nonneg, Nat.reduceLT, Nat.reduceLeDiff, Nat.reduceEqDiff, ne_eq, not_false_eq_true, Nat.reduceAdd, reduceCtorEq, Int.reduceLT, Int.reduceLE, Int.reduceToNat, ↓zb2_of hK, z1, e1, c1, e2, c2]
theorem m_delete (hA : mA time sn bt seen pr tl us un M) (hb : bt.length ≤ 6) {k : Int} (hk : rg k) : ∃ Q, f_Md_delete 30 k M = some (if isK k = false then -1 else (rdy bt k 0 (-1)).1, Q) ∧ mFr M Q ∧ mA time sn (if isK k = false then bt else (rdy bt k 0 (-1)).2) seen pr tl us un Q ∧ ∀ q k, ¬ (q = 30 ∧ k = 5) → q ≠ 42 → q ≠ 43 → q ≠ 44 → iF Q q k = iF M q k := by
  have h := hA.1
  have hK := m_isKey M hk
  have z0 : zeq 0 0 := rfl
  have z1 : ¬ zeq 1 0 := by decide
  unfold f_Md_delete
  by_cases c0 : isK k = false
  · rw [if_pos c0, if_pos c0]
    rw [c0] at hK
    simp only [Bool.false_eq_true, if_false] at hK
    refine ⟨M, ?_, mFr.rf M, hA, fun _ _ _ _ _ _ => rfl⟩
    simp only [↓gI_b, ↓gR_b, ↓pI_b, ↓pZ_b, ↓pR_b, ↓ldI_b, ↓ldR_b, ↓stI_b, ↓stZ_b, ↓stR_b, zk_eq, sh_wI, sh_wR, rF_wI, iF_wR, ms30 h, true_and, and_true, and_self, ↓reduceIte, Int.toNat_natCast, Int.natCast_nonneg, Nat.reduceLT, Nat.reduceLeDiff, Nat.reduceEqDiff, ne_eq, not_false_eq_true, Nat.reduceAdd, reduceCtorEq, Int.reduceLT, Int.reduceLE, Int.reduceToNat, ↓zb2_of hK, z0]
  have c0' : isK k = true := by simpa using c0
  rw [c0', if_pos rfl] at hK
  rw [if_neg c0, if_neg c0]
  obtain ⟨Q, h1, h2, h3, h4⟩ := m_add hA hb hk rg0 rgm1
  refine ⟨Q, ?_, h2, h3, h4⟩
  simp only [↓gI_b, ↓gR_b, ↓pI_b, ↓pZ_b, ↓pR_b, ↓ldI_b, ↓ldR_b, ↓stI_b, ↓stZ_b, ↓stR_b, zk_eq, sh_wI, sh_wR, rF_wI, iF_wR, ms30 h, true_and, and_true, and_self, ↓reduceIte, Int.toNat_natCast, Int.natCast_nonneg, Nat.reduceLT, Nat.reduceLeDiff, Nat.reduceEqDiff, ne_eq, not_false_eq_true, Nat.reduceAdd, reduceCtorEq, Int.reduceLT, Int.reduceLE, Int.reduceToNat, ↓zb2_of hK, z1, ↓zb2_of h1]
-- snapshots
def tkN : Nat → Nat → List Int → Option Nat
  | 0, _, _ => none
  | f + 1, i, seen => match seen with
    | [] => none
    | s :: l => if s < 0 then some i else tkN f (i + 1) l
/-- the first free snapshot -/
def tkF (seen : List Int) : Option Nat := tkN 4 0 seen
theorem sA.get (hS : sA seen M) {s : Nat} (hs : s < 3) : seen.getD s (-1) = sv M s := by
  rw [← hS.1]
  match s, hs with
  | 0, _ => rfl
  | 1, _ => rfl
  | 2, _ => rfl
theorem sA.neg (hS : sA seen M) {s : Nat} (hs : s < 3) : iF M 45 s = 0 ↔ seen.getD s (-1) < 0 := by
  rw [hS.get hs]
  unfold sv
  have := hS.2 s hs
  by_cases c : iF M 45 s = 0
  · simp [c]
  · rw [if_neg c]
    have h1 : iF M 45 s = 1 := by rcases this.1 with q | q; exact absurd q c; exact q
    have := this.2 h1
    constructor
    · intro q; exact absurd q c
    · intro q; omega
theorem sA.set (hS : sA seen M) (h : mSh M) {s : Nat} (hs : s < 3) {x : Int} (hx : 0 ≤ x) : sA (seen.set s x) (wI (wI M 45 s 1) 46 s x) := by
  have h1 : ∀ j, j < 3 → iF (wI (wI M 45 s 1) 46 s x) 45 j = if j = s then 1 else iF M 45 j := fun j hj => by
    rw [wIq (by decide), iF_wI, ms45 h]
    by_cases c : j = s
    · simp [c, hs]
    · simp [c]
  have h2 : ∀ j, j < 3 → iF (wI (wI M 45 s 1) 46 s x) 46 j = if j = s then x else iF M 46 j := fun j hj => by
    rw [iF_wI, sh_wI, ms46 h, wIq (by decide)]
    by_cases c : j = s
    · simp [c, hs]
    · simp [c]
  refine ⟨?_, fun j hj => ?_⟩
  · rw [← hS.1]
    unfold sn3 sv
    rw [h1 0 (by decide), h1 1 (by decide), h1 2 (by decide), h2 0 (by decide), h2 1 (by decide), h2 2 (by decide)]
    match s, hs with
    | 0, _ => rfl
    | 1, _ => rfl
    | 2, _ => rfl
  · rw [h1 j hj, h2 j hj]
    by_cases c : j = s
    · simp [c, hx]
    · simp only [c, if_false]; exact hS.2 j hj
theorem sA.clr (hS : sA seen M) (h : mSh M) {s : Nat} (hs : s < 3) : sA (seen.set s (-1)) (wI M 45 s 0) := by
  have h1 : ∀ j, j < 3 → iF (wI M 45 s 0) 45 j = if j = s then 0 else iF M 45 j := fun j hj => by
    rw [iF_wI, ms45 h]
    by_cases c : j = s
    · simp [c, hs]
    · simp [c]
  have h2 : ∀ j, iF (wI M 45 s 0) 46 j = iF M 46 j := fun j => wIq (by decide)
  refine ⟨?_, fun j hj => ?_⟩
  · rw [← hS.1]
    unfold sn3 sv
    rw [h1 0 (by decide), h1 1 (by decide), h1 2 (by decide), h2 0, h2 1, h2 2]
    match s, hs with
    | 0, _ => rfl
    | 1, _ => rfl
    | 2, _ => rfl
  · rw [h1 j hj, h2 j]
    by_cases c : j = s
    · simp [c]
    · simp only [c, if_false]; exact hS.2 j hj
/-- take: the snapshot's number and what is seen then -/
def tk (seen : List Int) (sn : Int) : Int × List Int :=
  if seen.getD 0 (-1) < 0 then (0, seen.set 0 sn) else if seen.getD 1 (-1) < 0 then (1, seen.set 1 sn) else if seen.getD 2 (-1) < 0 then (2, seen.set 2 sn) else (-3, seen)
theorem m_take (hA : mA time sn bt seen pr tl us un M) (hs0 : 0 ≤ sn) : ∃ Q, f_Md_take 30 M = some ((tk seen sn).1, Q) ∧ mFr M Q ∧ mA time sn bt (tk seen sn).2 pr tl us un Q ∧ ∀ q k, q ≠ 45 → q ≠ 46 → iF Q q k = iF M q k := by
  obtain ⟨h, hG, a1, a2, a3, a4, a5, a6, a7⟩ := mA_iff.mp hA
  have key : ∀ s : Nat, s < 3 → ∀ κ : zHp → Option (Int × zHp), ∀ n : Nat, f_Md_take_L2 κ 30 (n + 1) (s : Int) M = if seen.getD s (-1) < 0 then some ((s : Int), wI (wI M 45 s 1) 46 s sn) else f_Md_take_L2 κ 30 n ((s + 1 : Nat) : Int) M := by
    intro s hs κ n
    conv => lhs; unfold f_Md_take_L2
    have e1 : ¬ zle 3 (s : Int) := fun q => by have := (zle_iff (by unfold rg; omega) (rgN (by omega))).mp q; omega
    have e2 : (s : Int) < 4096 := by omega
    have e3 := zeq_iff (hG 45 s) rg0
    have e5 := zaddN (i := s) (by omega)
    by_cases c : iF M 45 s = 0
    · rw [if_pos ((a5.neg hs).mp c)]
      have w4 : iF (wI M 45 s 1) 30 4 = sn := by rw [wIq (by decide)]; exact a2
      simp only [↓gI_b, ↓gR_b, ↓pI_b, ↓pZ_b, ↓pR_b, ↓ldI_b, ↓ldR_b, ↓stI_b, ↓stZ_b, ↓stR_b, zk_eq, sh_wI, sh_wR, rF_wI, iF_wR, ms30 h, ms31 h, ms32 h, ms33 h, ms34 h, ms35 h, ms36 h, ms37 h, ms38 h, ms39 h, ms40 h, ms41 h, ms42 h, ms43 h, ms44 h, ms45 h, ms46 h, ms47 h, ms48 h, ms49 h, ms50 h, mr0 h, mr1 h, mr2 h, mr3 h, mr4 h, mr5 h, mr6 h, mr7 h, mr8 h, mr9 h, mr10 h, mr11 h, mr12 h, mr13 h, mr14 h, mr15 h, mr16 h, mr17 h, mr18 h, mr19 h, true_and, and_true, and_self, ↓reduceIte, Int.toNat_natCast, Int.natCast_nonneg, Nat.reduceLT, Nat.reduceLeDiff, Nat.reduceEqDiff, ne_eq, not_false_eq_true, Nat.reduceAdd, reduceCtorEq, Int.reduceLT, Int.reduceLE, Int.reduceToNat, e1, e2, hs, e3, eq_true c, or_true, w4]
    · rw [if_neg (fun q => c ((a5.neg hs).mpr q))]
      simp only [↓gI_b, ↓gR_b, ↓pI_b, ↓pZ_b, ↓pR_b, ↓ldI_b, ↓ldR_b, ↓stI_b, ↓stZ_b, ↓stR_b, zk_eq, sh_wI, sh_wR, rF_wI, iF_wR, ms30 h, ms31 h, ms32 h, ms33 h, ms34 h, ms35 h, ms36 h, ms37 h, ms38 h, ms39 h, ms40 h, ms41 h, ms42 h, ms43 h, ms44 h, ms45 h, ms46 h, ms47 h, ms48 h, ms49 h, ms50 h, mr0 h, mr1 h, mr2 h, mr3 h, mr4 h, mr5 h, mr6 h, mr7 h, mr8 h, mr9 h, mr10 h, mr11 h, mr12 h, mr13 h, mr14 h, mr15 h, mr16 h, mr17 h, mr18 h, mr19 h, true_and, and_true, and_self, ↓reduceIte, Int.toNat_natCast, Int.natCast_nonneg, Nat.reduceLT, Nat.reduceLeDiff, Nat.reduceEqDiff, ne_eq, not_false_eq_true, Nat.reduceAdd, reduceCtorEq, Int.reduceLT, Int.reduceLE, Int.reduceToNat, e1, e2, hs, e3, c, e5]
  have hres : ∀ s : Nat, s < 3 → mFr M (wI (wI M 45 s 1) 46 s sn) ∧ mA time sn bt (seen.set s sn) pr tl us un (wI (wI M 45 s 1) 46 s sn) ∧ ∀ q k, q ≠ 45 → q ≠ 46 → iF (wI (wI M 45 s 1) 46 s sn) q k = iF M q k := by
    intro s hs
    have hI : ∀ q k, q ≠ 45 → q ≠ 46 → iF (wI (wI M 45 s 1) 46 s sn) q k = iF M q k := fun q k h1 h2 => by rw [wIq h2, wIq h1]
    have hF : mFr M (wI (wI M 45 s 1) 46 s sn) := (mFr.wI M (by decide) (by decide)).tr (mFr.wI _ (by decide) (by decide))
    refine ⟨hF, mA_iff.mpr ⟨hF.mSh h, RG_wI (RG_wI hG rg1) (by rw [← a2]; exact hG 30 4), (hI 30 0 (by decide) (by decide)).trans a1, (hI 30 4 (by decide) (by decide)).trans a2, (hI 30 9 (by decide) (by decide)).trans a3, a4.cg (hI 30 5 (by decide) (by decide)) (fun k => hI 42 k (by decide) (by decide)) (fun k => hI 43 k (by decide) (by decide)) (fun k => hI 44 k (by decide) (by decide)), a5.set h hs hs0, a6.cg (hI 30 6 (by decide) (by decide)) (hI 30 7 (by decide) (by decide)) (fun k => hI 47 k (by decide) (by decide)), a7.cg (hI 30 8 (by decide) (by decide)) (fun k => hI 48 k (by decide) (by decide)) (fun k => hI 49 k (by decide) (by decide)) (fun k => hI 50 k (by decide) (by decide))⟩, hI⟩
  unfold f_Md_take tk
  rw [zk_eq, ms30 h]
  rw [if_pos rfl]
  have k0 := key 0 (by decide) (fun M17 => some (-3, M17)) 599
  have k1 := key 1 (by decide) (fun M17 => some (-3, M17)) 598
  have k2 := key 2 (by decide) (fun M17 => some (-3, M17)) 597
  have k3 : f_Md_take_L2 (fun M17 => some (-3, M17)) 30 (596 + 1) ((3 : Nat) : Int) M = some (-3, M) := by
    unfold f_Md_take_L2
    have e1 : zle 3 ((3 : Nat) : Int) := by decide
    simp only [e1, if_true]
  have kz : f_Md_take_L2 (fun M17 => some (-3, M17)) 30 zfu 0 M = f_Md_take_L2 (fun M17 => some (-3, M17)) 30 (599 + 1) ((0 : Nat) : Int) M := rfl
  rw [kz, k0]
  by_cases c0 : seen.getD 0 (-1) < 0
  · rw [if_pos c0, if_pos c0]
    obtain ⟨r1, r2, r3⟩ := hres 0 (by decide)
    exact ⟨_, rfl, r1, r2, r3⟩
  rw [if_neg c0, if_neg c0]
  have k1' : f_Md_take_L2 (fun M17 => some (-3, M17)) 30 599 ((0 + 1 : Nat) : Int) M = f_Md_take_L2 (fun M17 => some (-3, M17)) 30 (598 + 1) ((1 : Nat) : Int) M := rfl
  rw [k1', k1]
  by_cases c1 : seen.getD 1 (-1) < 0
  · rw [if_pos c1, if_pos c1]
    obtain ⟨r1, r2, r3⟩ := hres 1 (by decide)
    exact ⟨_, rfl, r1, r2, r3⟩
  rw [if_neg c1, if_neg c1]
  have k2' : f_Md_take_L2 (fun M17 => some (-3, M17)) 30 598 ((1 + 1 : Nat) : Int) M = f_Md_take_L2 (fun M17 => some (-3, M17)) 30 (597 + 1) ((2 : Nat) : Int) M := rfl
  rw [k2', k2]
  by_cases c2 : seen.getD 2 (-1) < 0
  · rw [if_pos c2, if_pos c2]
    obtain ⟨r1, r2, r3⟩ := hres 2 (by decide)
    exact ⟨_, rfl, r1, r2, r3⟩
  rw [if_neg c2, if_neg c2]
  have k3' : f_Md_take_L2 (fun M17 => some (-3, M17)) 30 597 ((2 + 1 : Nat) : Int) M = f_Md_take_L2 (fun M17 => some (-3, M17)) 30 (596 + 1) ((3 : Nat) : Int) M := rfl
  rw [k3', k3]
  exact ⟨M, rfl, mFr.rf M, hA, fun _ _ _ _ => rfl⟩
/-- release: whether it was one, and what is seen then -/
def rls (seen : List Int) (s : Int) : Int × List Int := if s < 0 ∨ 2 < s ∨ seen.getD s.toNat (-1) < 0 then (0, seen) else (1, seen.set s.toNat (-1))
theorem m_release (hA : mA time sn bt seen pr tl us un M) {x : Int} (hx : rg x) : ∃ Q, f_Md_release 30 x M = some ((rls seen x).1, Q) ∧ mFr M Q ∧ mA time sn bt (rls seen x).2 pr tl us un Q ∧ ∀ q k, q ≠ 45 → iF Q q k = iF M q k := by
  obtain ⟨h, hG, a1, a2, a3, a4, a5, a6, a7⟩ := mA_iff.mp hA
  have e1 := zlt_iff hx rg0
  have e2 := zle_iff hx rg2
  unfold f_Md_release rls
  by_cases c1 : x < 0
  · rw [if_pos (Or.inl c1)]
    refine ⟨M, ?_, mFr.rf M, hA, fun _ _ _ => rfl⟩
    simp only [↓gI_b, ↓gR_b, ↓pI_b, ↓pZ_b, ↓pR_b, ↓ldI_b, ↓ldR_b, ↓stI_b, ↓stZ_b, ↓stR_b, zk_eq, sh_wI, sh_wR, rF_wI, iF_wR, ms30 h, true_and, and_true, and_self, ↓reduceIte, Int.toNat_natCast, Int.natCast_nonneg, Nat.reduceLT, Nat.reduceLeDiff, Nat.reduceEqDiff, ne_eq, not_false_eq_true, Nat.reduceAdd, reduceCtorEq, Int.reduceLT, Int.reduceLE, Int.reduceToNat, e1, c1]
  by_cases c2 : ¬ x ≤ 2
  · rw [if_pos (show x < 0 ∨ 2 < x ∨ seen.getD x.toNat (-1) < 0 by omega)]
    refine ⟨M, ?_, mFr.rf M, hA, fun _ _ _ => rfl⟩
    simp only [↓gI_b, ↓gR_b, ↓pI_b, ↓pZ_b, ↓pR_b, ↓ldI_b, ↓ldR_b, ↓stI_b, ↓stZ_b, ↓stR_b, zk_eq, sh_wI, sh_wR, rF_wI, iF_wR, ms30 h, true_and, and_true, and_self, ↓reduceIte, Int.toNat_natCast, Int.natCast_nonneg, Nat.reduceLT, Nat.reduceLeDiff, Nat.reduceEqDiff, ne_eq, not_false_eq_true, Nat.reduceAdd, reduceCtorEq, Int.reduceLT, Int.reduceLE, Int.reduceToNat, e1, c1, e2, c2]
  have c2 := Decidable.not_not.mp c2
  obtain ⟨s, rfl⟩ : ∃ s : Nat, x = (s : Int) := ⟨x.toNat, by omega⟩
  have hs : s < 3 := by omega
  have e3 : (s : Int) < 4096 := by omega
  have hI : ∀ q k, q ≠ 45 → iF (wI M 45 s 0) q k = iF M q k := fun q k h1 => wIq h1
  have hF : mFr M (wI M 45 s 0) := mFr.wI M (by decide) (by decide)
  have hA2 : mA time sn bt (seen.set s (-1)) pr tl us un (wI M 45 s 0) := mA_iff.mpr ⟨hF.mSh h, RG_wI hG rg0, (hI 30 0 (by decide)).trans a1, (hI 30 4 (by decide)).trans a2, (hI 30 9 (by decide)).trans a3, a4.cg (hI 30 5 (by decide)) (fun k => hI 42 k (by decide)) (fun k => hI 43 k (by decide)) (fun k => hI 44 k (by decide)), a5.clr h hs, a6.cg (hI 30 6 (by decide)) (hI 30 7 (by decide)) (fun k => hI 47 k (by decide)), a7.cg (hI 30 8 (by decide)) (fun k => hI 48 k (by decide)) (fun k => hI 49 k (by decide)) (fun k => hI 50 k (by decide))⟩
  have hz : zbl (iF M 45 s) = true := by
    rcases (a5.2 s hs).1 with q | q <;> rw [q] <;> rfl
  by_cases c3 : seen.getD s (-1) < 0
  · have h0 := (a5.neg hs).mpr c3
    have hc : (s : Int) < 0 ∨ 2 < (s : Int) ∨ seen.getD (s : Int).toNat (-1) < 0 := Or.inr (Or.inr (by rw [Int.toNat_natCast]; exact c3))
    rw [if_pos hc]
    refine ⟨wI M 45 s 0, ?_, hF, ?_, hI⟩
    · simp only [↓gI_b, ↓gR_b, ↓pI_b, ↓pZ_b, ↓pR_b, ↓ldI_b, ↓ldR_b, ↓stI_b, ↓stZ_b, ↓stR_b, zk_eq, sh_wI, sh_wR, rF_wI, iF_wR, ms30 h, ms31 h, ms32 h, ms33 h, ms34 h, ms35 h, ms36 h, ms37 h, ms38 h, ms39 h, ms40 h, ms41 h, ms42 h, ms43 h, ms44 h, ms45 h, ms46 h, ms47 h, ms48 h, ms49 h, ms50 h, mr0 h, mr1 h, mr2 h, mr3 h, mr4 h, mr5 h, mr6 h, mr7 h, mr8 h, mr9 h, mr10 h, mr11 h, mr12 h, mr13 h, mr14 h, mr15 h, mr16 h, mr17 h, mr18 h, mr19 h, true_and, and_true, and_self, ↓reduceIte, Int.toNat_natCast, Int.natCast_nonneg, Nat.reduceLT, Nat.reduceLeDiff, Nat.reduceEqDiff, ne_eq, not_false_eq_true, Nat.reduceAdd, reduceCtorEq, Int.reduceLT, Int.reduceLE, Int.reduceToNat, e1, c1, e2, c2, e3, hs, true_or, h0]
      rfl
    · have : seen.set s (-1) = seen := by
        have h1 := a5.get hs
        unfold sv at h1
        rw [if_pos h0] at h1
        have hlen : seen.length = 3 := by rw [← a5.1]; rfl
        apply List.ext_getElem?
        intro j
        rw [List.getElem?_set]
        by_cases hj : s = j
        · subst hj
          rw [List.getD_eq_getElem?_getD] at h1
          have hsl : s < seen.length := by omega
          simp only [if_true, hsl]
          rw [List.getElem?_eq_getElem hsl] at h1 ⊢
          simp at h1
          rw [h1]
        · simp [hj]
      rw [this] at hA2
      exact hA2
  · have h0 : iF M 45 s = 1 := by
      rcases (a5.2 s hs).1 with q | q
      · exact absurd ((a5.neg hs).mp q) c3
      · exact q
    have hc : ¬ ((s : Int) < 0 ∨ 2 < (s : Int) ∨ seen.getD (s : Int).toNat (-1) < 0) := by rw [Int.toNat_natCast]; omega
    rw [if_neg hc]
    refine ⟨wI M 45 s 0, ?_, hF, ?_, hI⟩
    · simp only [↓gI_b, ↓gR_b, ↓pI_b, ↓pZ_b, ↓pR_b, ↓ldI_b, ↓ldR_b, ↓stI_b, ↓stZ_b, ↓stR_b, zk_eq, sh_wI, sh_wR, rF_wI, iF_wR, ms30 h, ms31 h, ms32 h, ms33 h, ms34 h, ms35 h, ms36 h, ms37 h, ms38 h, ms39 h, ms40 h, ms41 h, ms42 h, ms43 h, ms44 h, ms45 h, ms46 h, ms47 h, ms48 h, ms49 h, ms50 h, mr0 h, mr1 h, mr2 h, mr3 h, mr4 h, mr5 h, mr6 h, mr7 h, mr8 h, mr9 h, mr10 h, mr11 h, mr12 h, mr13 h, mr14 h, mr15 h, mr16 h, mr17 h, mr18 h, mr19 h, true_and, and_true, and_self, ↓reduceIte, Int.toNat_natCast, Int.natCast_nonneg, Nat.reduceLT, Nat.reduceLeDiff, Nat.reduceEqDiff, ne_eq, not_false_eq_true, Nat.reduceAdd, reduceCtorEq, Int.reduceLT, Int.reduceLE, Int.reduceToNat, e1, c1, e2, c2, e3, hs, true_or, h0]
      rfl
    · simp only [Int.toNat_natCast]; exact hA2
end MD12
