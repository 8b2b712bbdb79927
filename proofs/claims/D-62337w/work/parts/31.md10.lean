-- parts of mA
def bA (bt : List Bt) (M : zHp) : Prop := iF M 30 5 = (bt.length : Int) ∧ ∀ k b, bt[k]? = some b → b = (iF M 42 k, iF M 43 k, iF M 44 k)
def sA (seen : List Int) (M : zHp) : Prop := sn3 M = seen ∧ ∀ s, s < 3 → (iF M 45 s = 0 ∨ iF M 45 s = 1) ∧ (iF M 45 s = 1 → 0 ≤ iF M 46 s)
def uA (tl : Int) (us : List Int) (M : zHp) : Prop := iF M 30 6 = tl ∧ iF M 30 7 = tl + us.length - 1 ∧ ∀ (k : Nat) u, us[k]? = some u → iF M 47 ((tl + k) % 8).toNat = u
def nA (un : List Un) (M : zHp) : Prop := iF M 30 8 = (un.length : Int) ∧ ∀ k u, un[k]? = some u → u = (iF M 48 k, iF M 49 k, iF M 50 k)
theorem mA_iff {time sn : Int} {bt : List Bt} {seen : List Int} {pr tl : Int} {us : List Int} {un : List Un} {M : zHp} : mA time sn bt seen pr tl us un M ↔ mSh M ∧ RG M ∧ iF M 30 0 = time ∧ iF M 30 4 = sn ∧ iF M 30 9 = pr ∧ bA bt M ∧ sA seen M ∧ uA tl us M ∧ nA un M := by
  unfold mA bA sA uA nA
  constructor
  · rintro ⟨a1, a2, a3, a4, a5, a6, a7, a8, a9, a10, a11, a12, a13, a14⟩
    exact ⟨a1, a2, a3, a4, a5, ⟨a6, a7⟩, ⟨a8, a9⟩, ⟨a10, a11, a12⟩, a13, a14⟩
  · rintro ⟨a1, a2, a3, a4, a5, ⟨a6, a7⟩, ⟨a8, a9⟩, ⟨a10, a11, a12⟩, a13, a14⟩
    exact ⟨a1, a2, a3, a4, a5, a6, a7, a8, a9, a10, a11, a12, a13, a14⟩
theorem bA.cg {bt : List Bt} {M P : zHp} (h : bA bt M) (h5 : iF P 30 5 = iF M 30 5) (h1 : ∀ k, iF P 42 k = iF M 42 k) (h2 : ∀ k, iF P 43 k = iF M 43 k) (h3 : ∀ k, iF P 44 k = iF M 44 k) : bA bt P := ⟨h5.trans h.1, fun k b hb => by rw [h1, h2, h3]; exact h.2 k b hb⟩
theorem sA.cg {seen : List Int} {M P : zHp} (h : sA seen M) (h1 : ∀ k, iF P 45 k = iF M 45 k) (h2 : ∀ k, iF P 46 k = iF M 46 k) : sA seen P := ⟨by rw [← h.1]; unfold sn3 sv; simp only [h1, h2], fun s hs => by rw [h1, h2]; exact h.2 s hs⟩
theorem uA.cg {tl : Int} {us : List Int} {M P : zHp} (h : uA tl us M) (h6 : iF P 30 6 = iF M 30 6) (h7 : iF P 30 7 = iF M 30 7) (h1 : ∀ k, iF P 47 k = iF M 47 k) : uA tl us P := ⟨h6.trans h.1, h7.trans h.2.1, fun k u hu => by rw [h1]; exact h.2.2 k u hu⟩
theorem nA.cg {un : List Un} {M P : zHp} (h : nA un M) (h8 : iF P 30 8 = iF M 30 8) (h1 : ∀ k, iF P 48 k = iF M 48 k) (h2 : ∀ k, iF P 49 k = iF M 49 k) (h3 : ∀ k, iF P 50 k = iF M 50 k) : nA un P := ⟨h8.trans h.1, fun k b hb => by rw [h1, h2, h3]; exact h.2 k b hb⟩
/-- the entries' part: nothing of 30 .. 39 but numbers other than entries, newest, zeroes has changed -/
theorem mB.cg {N : Nat} {sn : Int} {mem : List En} {l0 : List (List En)} {l1 l2 : List En} {M P : zHp} (h : mB N sn mem l0 l1 l2 M) (h1 : iF P 30 1 = iF M 30 1) (h2 : iF P 30 2 = iF M 30 2) (h3 : iF P 30 3 = iF M 30 3) (hq : ∀ q k, 31 ≤ q → q ≤ 39 → iF P q k = iF M q k) : mB N sn mem l0 l1 l2 P := by
  obtain ⟨b1, b2, b3, b4, b5, b6, b7, b8, b9, b10, b11, b12, b13, b14, b15⟩ := h
  have hme : ∀ e, me P e = me M e := fun e => by
    unfold me
    rw [hq 34 _ (by decide) (by decide), hq 31 _ (by decide) (by decide), hq 32 _ (by decide) (by decide), hq 35 _ (by decide) (by decide), hq 33 _ (by decide) (by decide), hq 38 _ (by decide) (by decide), hq 39 _ (by decide) (by decide)]
  have h36 : ∀ e, iF P 36 e = iF M 36 e := fun e => hq 36 e (by decide) (by decide)
  have hlv : ∀ k, lvE P N k = lvE M N k := fun k => ent_cg (fun e _ => by rw [h36]) (fun e _ _ => hme e)
  refine ⟨h1.trans b1, b2, b3, b4, ?_, ?_, ?_, ?_, ?_, h3.trans b10, ?_, ?_, ?_, ?_, ?_⟩
  · intro e he
    rw [hq 34 e (by decide) (by decide), hq 35 e (by decide) (by decide), hq 32 e (by decide) (by decide), hq 31 e (by decide) (by decide), h36]
    exact b5 e he
  · intro e f he hf
    rw [h36, h36, hq 32 e (by decide) (by decide), hq 32 f (by decide) (by decide)]
    exact b6 e f he hf
  · rw [hlv]; exact b7
  · rw [hlv]; exact b8
  · rw [hlv]; exact b9
  · intro k t ht
    have : tb0 P N k = tb0 M N k := ent_cg (fun e _ => by rw [h36, h2, hq 37 e (by decide) (by decide)]) (fun e _ _ => hme e)
    rw [this]
    exact b11 k t ht
  · intro e he h0
    rw [h36] at h0
    rw [h2, hq 37 e (by decide) (by decide)]
    exact b12 e he h0
  · intro e he h0
    rw [h36] at h0
    rw [hq 37 e (by decide) (by decide), b13 e he h0]
    congr 1
    unfold rnk
    apply cnt_cg
    intro f _
    rw [h36, h36, hme, hme]
  · rw [h2]; exact b14
  · rw [h2]; exact b15
section MD11
variable {M : zHp} {N : Nat} {time sn : Int} {bt : List Bt} {seen : List Int} {pr tl : Int} {us : List Int} {un : List Un} {mem : List En} {l0 : List (List En)} {l1 l2 : List En}
/-- a number of the model's own is written -/
theorem wI30 {M : zHp} {k j : Nat} {x : Int} (h : j ≠ k) : iF (wI M 30 k x) 30 j = iF M 30 j := by rw [iF_wI, if_neg (fun c => h c.2.1)]
theorem wI30s {M : zHp} (h : mSh M) {k : Nat} {x : Int} (hk : k < 10) : iF (wI M 30 k x) 30 k = x := by rw [iF_wI, ms30 h, if_pos ⟨rfl, rfl, hk⟩]
theorem wIq {M : zHp} {r k q j : Nat} {x : Int} (h : q ≠ r) : iF (wI M r k x) q j = iF M q j := by rw [iF_wI, if_neg (fun c => h c.1)]
theorem m_sync (hA : mA time sn bt seen pr tl us un M) : ∃ Q, f_Md_sync 30 M = some ((un.length : Int), Q) ∧ mFr M Q ∧ mA time sn bt seen pr tl us [] Q ∧ ∀ q k, ¬ (q = 30 ∧ k = 8) → iF Q q k = iF M q k := by
  obtain ⟨h, hG, a1, a2, a3, a4, a5, a6, a7⟩ := mA_iff.mp hA
  refine ⟨wI M 30 8 0, ?_, mFr.wI M (by decide) (by decide), mA_iff.mpr ⟨mSh_wI h, RG_wI hG rg0, ?_, ?_, ?_, a4.cg (wI30 (by decide)) (fun k => wIq (by decide)) (fun k => wIq (by decide)) (fun k => wIq (by decide)), a5.cg (fun k => wIq (by decide)) (fun k => wIq (by decide)), a6.cg (wI30 (by decide)) (wI30 (by decide)) (fun k => wIq (by decide)), ?_, fun k u hu => by simp at hu⟩, fun q k hq => by rw [iF_wI, if_neg (fun c => hq ⟨c.1, c.2.1⟩)]⟩
  · unfold f_Md_sync
    simp only [↓gI_b, ↓gR_b, ↓pI_b, ↓pZ_b, ↓pR_b, ↓ldI_b, ↓ldR_b, ↓stI_b, ↓stZ_b, ↓stR_b, zk_eq, sh_wI, sh_wR, rF_wI, iF_wR, ms30 h, true_and, and_true, and_self, ↓reduceIte, Int.toNat_natCast, Int.natCast_nonneg, Nat.reduceLT, Nat.reduceLeDiff, Nat.reduceEqDiff, ne_eq, not_false_eq_true, Nat.reduceAdd, reduceCtorEq, Int.reduceLT, Int.reduceLE, Int.reduceToNat, a7.1]
  · rw [wI30 (by decide)]; exact a1
  · rw [wI30 (by decide)]; exact a2
  · rw [wI30 (by decide)]; exact a3
  · rw [wI30s h (by decide)]; rfl
theorem m_tick (hA : mA time sn bt seen pr tl us un M) (x : Int) (hx : rg x) (ht : 0 ≤ time ∧ time ≤ 1000000) : ∃ Q, f_Md_tick 30 x M = some (if x < 0 ∨ 1000 < x then -1 else time + x, Q) ∧ mFr M Q ∧ mA (if x < 0 ∨ 1000 < x then time else time + x) sn bt seen pr tl us un Q ∧ ∀ q k, ¬ (q = 30 ∧ k = 0) → iF Q q k = iF M q k := by
  obtain ⟨h, hG, a1, a2, a3, a4, a5, a6, a7⟩ := mA_iff.mp hA
  have e1 := zlt_iff hx rg0
  have e2 := zle_iff (y := 1000) hx (by unfold rg; omega)
  unfold f_Md_tick
  by_cases c1 : x < 0
  · refine ⟨M, ?_, mFr.rf M, ?_, fun _ _ _ => rfl⟩
    · simp only [↓gI_b, ↓gR_b, ↓pI_b, ↓pZ_b, ↓pR_b, ↓ldI_b, ↓ldR_b, ↓stI_b, ↓stZ_b, ↓stR_b, zk_eq, sh_wI, sh_wR, rF_wI, iF_wR, ms30 h, true_and, and_true, and_self, ↓reduceIte, Int.toNat_natCast, Int.natCast_nonneg, Nat.reduceLT, Nat.reduceLeDiff, Nat.reduceEqDiff, ne_eq, not_false_eq_true, Nat.reduceAdd, reduceCtorEq, Int.reduceLT, Int.reduceLE, Int.reduceToNat, e1, c1, true_or]
    · rw [if_pos (Or.inl c1)]; exact hA
  by_cases c2 : x ≤ 1000
  · have e3 : zadd time x = time + x := zadd_eq (by omega) (by omega)
    have e4 : ¬ (x < 0 ∨ 1000 < x) := by omega
    rw [if_neg e4, if_neg e4]
    refine ⟨wI M 30 0 (time + x), ?_, mFr.wI M (by decide) (by decide), mA_iff.mpr ⟨mSh_wI h, RG_wI hG ⟨by omega, by omega⟩, wI30s h (by decide), ?_, ?_, a4.cg (wI30 (by decide)) (fun k => wIq (by decide)) (fun k => wIq (by decide)) (fun k => wIq (by decide)), a5.cg (fun k => wIq (by decide)) (fun k => wIq (by decide)), a6.cg (wI30 (by decide)) (wI30 (by decide)) (fun k => wIq (by decide)), a7.cg (wI30 (by decide)) (fun k => wIq (by decide)) (fun k => wIq (by decide)) (fun k => wIq (by decide))⟩, fun q k hq => by rw [iF_wI, if_neg (fun c => hq ⟨c.1, c.2.1⟩)]⟩
    · simp only [↓gI_b, ↓gR_b, ↓pI_b, ↓pZ_b, ↓pR_b, ↓ldI_b, ↓ldR_b, ↓stI_b, ↓stZ_b, ↓stR_b, zk_eq, sh_wI, sh_wR, rF_wI, iF_wR, ms30 h, true_and, and_true, and_self, ↓reduceIte, Int.toNat_natCast, Int.natCast_nonneg, Nat.reduceLT, Nat.reduceLeDiff, Nat.reduceEqDiff, ne_eq, not_false_eq_true, Nat.reduceAdd, reduceCtorEq, Int.reduceLT, Int.reduceLE, Int.reduceToNat, e1, e2, c1, c2, a1, e3, wI30s h (show 0 < 10 by decide)]
    · rw [wI30 (by decide)]; exact a2
    · rw [wI30 (by decide)]; exact a3
  · refine ⟨M, ?_, mFr.rf M, ?_, fun _ _ _ => rfl⟩
    · rw [if_pos (show x < 0 ∨ 1000 < x by omega)]
      simp only [↓gI_b, ↓gR_b, ↓pI_b, ↓pZ_b, ↓pR_b, ↓ldI_b, ↓ldR_b, ↓stI_b, ↓stZ_b, ↓stR_b, zk_eq, sh_wI, sh_wR, rF_wI, iF_wR, ms30 h, true_and, and_true, and_self, ↓reduceIte, Int.toNat_natCast, Int.natCast_nonneg, Nat.reduceLT, Nat.reduceLeDiff, Nat.reduceEqDiff, ne_eq, not_false_eq_true, Nat.reduceAdd, reduceCtorEq, Int.reduceLT, Int.reduceLE, Int.reduceToNat, e1, e2, c1, c2]
    · rw [if_pos (by omega)]; exact hA
theorem m_isKey (M : zHp) {k : Int} (hk : rg k) : f_Md_isKey k M = some (if isK k = true then 1 else 0, M) := by
  unfold f_Md_isKey isK
  have e1 := zlt_iff hk rg0
  have e2 := zle_iff (x := 32) (by unfold rg; omega) hk
  simp only [e1, e2]
  by_cases c1 : k < 0
  · have : ¬ 0 ≤ k := by omega
    simp [c1, this]
  · have c1' : 0 ≤ k := by omega
    by_cases c2 : 32 ≤ k
    · have : ¬ k < 32 := by omega
      simp [c1, c2, this]
    · have : k < 32 := by omega
      simp [c1, c2, c1', this]
theorem m_add (hA : mA time sn bt seen pr tl us un M) (hb : bt.length ≤ 6) {k v life : Int} (hk : rg k) (hv : rg v) (hl : rg life) : ∃ Q, f_Md_add 30 k v life M = some ((rdy bt k v life).1, Q) ∧ mFr M Q ∧ mA time sn (rdy bt k v life).2 seen pr tl us un Q ∧ ∀ q k, ¬ (q = 30 ∧ k = 5) → q ≠ 42 → q ≠ 43 → q ≠ 44 → iF Q q k = iF M q k := by
  obtain ⟨h, hG, a1, a2, a3, a4, a5, a6, a7⟩ := mA_iff.mp hA
  have e1 := zeq_iff (x := (bt.length : Int)) (y := 6) (rgN (by omega)) (by unfold rg; omega)
  unfold f_Md_add rdy
  by_cases c : bt.length = 6
  · rw [if_pos c]
    refine ⟨M, ?_, mFr.rf M, hA, fun _ _ _ _ _ _ => rfl⟩
    have e2 : zeq (bt.length : Int) 6 := e1.mpr (by omega)
    simp only [↓gI_b, ↓gR_b, ↓pI_b, ↓pZ_b, ↓pR_b, ↓ldI_b, ↓ldR_b, ↓stI_b, ↓stZ_b, ↓stR_b, zk_eq, sh_wI, sh_wR, rF_wI, iF_wR, ms30 h, true_and, and_true, and_self, ↓reduceIte, Int.toNat_natCast, Int.natCast_nonneg, Nat.reduceLT, Nat.reduceLeDiff, Nat.reduceEqDiff, ne_eq, not_false_eq_true, Nat.reduceAdd, reduceCtorEq, Int.reduceLT, Int.reduceLE, Int.reduceToNat, a4.1, eq_true e2]
  · rw [if_neg c]
    have e2 : ¬ zeq (bt.length : Int) 6 := fun q => c (by have := e1.mp q; omega)
    have l1 : bt.length < 6 := by omega
    have l2 : ((bt.length : Nat) : Int) < 4096 := by omega
    have e5 := zaddN (i := bt.length) (by omega)
    have hI : ∀ q j, ¬ (q = 30 ∧ j = 5) → ¬ (q = 42 ∧ j = bt.length) → ¬ (q = 43 ∧ j = bt.length) → ¬ (q = 44 ∧ j = bt.length) → iF (wI (wI (wI (wI M 42 bt.length k) 43 bt.length v) 44 bt.length life) 30 5 ((bt.length + 1 : Nat) : Int)) q j = iF M q j := by
      intro q j h1 h2 h3 h4
      rw [iF_wI, if_neg (fun c => h1 ⟨c.1, c.2.1⟩), iF_wI, if_neg (fun c => h4 ⟨c.1, c.2.1⟩), iF_wI, if_neg (fun c => h3 ⟨c.1, c.2.1⟩), iF_wI, if_neg (fun c => h2 ⟨c.1, c.2.1⟩)]
    have hF : mFr M (wI (wI (wI (wI M 42 bt.length k) 43 bt.length v) 44 bt.length life) 30 5 ((bt.length + 1 : Nat) : Int)) := (((mFr.wI M (by decide) (by decide)).tr (mFr.wI _ (by decide) (by decide))).tr (mFr.wI _ (by decide) (by decide))).tr (mFr.wI _ (by decide) (by decide))
    have h5 : iF (wI (wI (wI (wI M 42 bt.length k) 43 bt.length v) 44 bt.length life) 30 5 ((bt.length + 1 : Nat) : Int)) 30 5 = ((bt.length + 1 : Nat) : Int) := wI30s (mSh_wI (mSh_wI (mSh_wI h))) (by decide)
    refine ⟨_, ?_, hF, mA_iff.mpr ⟨hF.mSh h, RG_wI (RG_wI (RG_wI (RG_wI hG hk) hv) hl) (rgN (by omega)), ?_, ?_, ?_, ⟨?_, ?_⟩, a5.cg (fun j => hI 45 j (by simp) (by simp) (by simp) (by simp)) (fun j => hI 46 j (by simp) (by simp) (by simp) (by simp)), a6.cg (hI 30 6 (by simp) (by simp) (by simp) (by simp)) (hI 30 7 (by simp) (by simp) (by simp) (by simp)) (fun j => hI 47 j (by simp) (by simp) (by simp) (by simp)), a7.cg (hI 30 8 (by simp) (by simp) (by simp) (by simp)) (fun j => hI 48 j (by simp) (by simp) (by simp) (by simp)) (fun j => hI 49 j (by simp) (by simp) (by simp) (by simp)) (fun j => hI 50 j (by simp) (by simp) (by simp) (by simp))⟩, fun q j h1 h2 h3 h4 => hI q j h1 (fun c => h2 c.1) (fun c => h3 c.1) (fun c => h4 c.1)⟩
    · have w5 : ∀ (A : zHp) (r j : Nat) (y : Int), r ≠ 30 → iF (wI A r j y) 30 5 = iF A 30 5 := fun A r j y hr => wIq (fun q => hr q.symm)
      simp only [↓gI_b, ↓gR_b, ↓pI_b, ↓pZ_b, ↓pR_b, ↓ldI_b, ↓ldR_b, ↓stI_b, ↓stZ_b, ↓stR_b, zk_eq, sh_wI, sh_wR, rF_wI, iF_wR, ms30 h, ms31 h, ms32 h, ms33 h, ms34 h, ms35 h, ms36 h, ms37 h, ms38 h, ms39 h, ms40 h, ms41 h, ms42 h, ms43 h, ms44 h, ms45 h, ms46 h, ms47 h, ms48 h, ms49 h, ms50 h, mr0 h, mr1 h, mr2 h, mr3 h, mr4 h, mr5 h, mr6 h, mr7 h, mr8 h, mr9 h, mr10 h, mr11 h, mr12 h, mr13 h, mr14 h, mr15 h, mr16 h, mr17 h, mr18 h, mr19 h, true_and, and_true, and_self, ↓reduceIte, Int.toNat_natCast, Int.natCast_nonneg, Nat.reduceLT, Nat.reduceLeDiff, Nat.reduceEqDiff, ne_eq, not_false_eq_true, Nat.reduceAdd, reduceCtorEq, Int.reduceLT, Int.reduceLE, Int.reduceToNat, a4.1, e2, l1, l2, w5 _ 42 _ _ (by decide), w5 _ 43 _ _ (by decide), w5 _ 44 _ _ (by decide), e5, h5]
      rfl
    · exact (hI 30 0 (by simp) (by simp) (by simp) (by simp)).trans a1
    · exact (hI 30 4 (by simp) (by simp) (by simp) (by simp)).trans a2
    · exact (hI 30 9 (by simp) (by simp) (by simp) (by simp)).trans a3
    · rw [h5, List.length_append]; rfl
    · intro j b hb
      by_cases hj : j < bt.length
      · rw [List.getElem?_append_left hj] at hb
        rw [hI 42 j (by simp) (by omega) (by simp) (by simp), hI 43 j (by simp) (by simp) (by omega) (by simp), hI 44 j (by simp) (by simp) (by simp) (by omega)]
        exact a4.2 j b hb
      · rw [List.getElem?_append_right (by omega)] at hb
        have hz : j - bt.length < 1 := (List.getElem?_eq_some_iff.mp hb).1
        have hj2 : j = bt.length := by omega
        subst hj2
        rw [Nat.sub_self] at hb
        have hb' : b = (k, v, life) := by simpa using hb.symm
        rw [hb']
        have v1 : iF (wI (wI (wI (wI M 42 bt.length k) 43 bt.length v) 44 bt.length life) 30 5 ((bt.length + 1 : Nat) : Int)) 42 bt.length = k := by
          rw [wIq (by decide), wIq (by decide), wIq (by decide), iF_wI, ms42 h, if_pos ⟨rfl, rfl, l1⟩]
        have v2 : iF (wI (wI (wI (wI M 42 bt.length k) 43 bt.length v) 44 bt.length life) 30 5 ((bt.length + 1 : Nat) : Int)) 43 bt.length = v := by
          rw [wIq (by decide), wIq (by decide), iF_wI, sh_wI, ms43 h, if_pos ⟨rfl, rfl, l1⟩]
        have v3 : iF (wI (wI (wI (wI M 42 bt.length k) 43 bt.length v) 44 bt.length life) 30 5 ((bt.length + 1 : Nat) : Int)) 44 bt.length = life := by
          rw [wIq (by decide), iF_wI, sh_wI, sh_wI, ms44 h, if_pos ⟨rfl, rfl, l1⟩]
        rw [v1, v2, v3]
end MD11
