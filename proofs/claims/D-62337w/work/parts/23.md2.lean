-- an entry of the model's arrays
def me (M : zHp) (e : Nat) : En := if iF M 34 e = 0 then (iF M 31 e, iF M 32 e, 0, if iF M 35 e = 0 then -1 else iF M 35 e, iF M 33 e, iF M 38 e, iF M 39 e) else (iF M 31 e, iF M 32 e, 1, -1, 0, 0, 0)
theorem eK_me (M : zHp) (e : Nat) : eK (me M e) = iF M 31 e := by unfold me eK; split <;> rfl
theorem eS_me (M : zHp) (e : Nat) : eS (me M e) = iF M 32 e := by unfold me eS; split <;> rfl
theorem befB_iff (a b : En) : befB a b = true ↔ bef a b := by
  unfold befB bef
  simp
/-- only the model's ints may differ -/
def mFr (M M' : zHp) : Prop := (∀ q, sh M' q = sh M q) ∧ (∀ q k, rF M' q k = rF M q k) ∧ M'.length = M.length ∧ ∀ q k, q < 30 ∨ 50 < q → iF M' q k = iF M q k
theorem mFr.rf (M : zHp) : mFr M M := ⟨fun _ => rfl, fun _ _ => rfl, rfl, fun _ _ _ => rfl⟩
theorem mFr.tr {A B C : zHp} (h1 : mFr A B) (h2 : mFr B C) : mFr A C := ⟨fun q => (h2.1 q).trans (h1.1 q), fun q k => (h2.2.1 q k).trans (h1.2.1 q k), h2.2.2.1.trans h1.2.2.1, fun q k hq => (h2.2.2.2 q k hq).trans (h1.2.2.2 q k hq)⟩
theorem mFr.wI (M : zHp) {r k : Nat} {x : Int} (h1 : 30 ≤ r) (h2 : r ≤ 50) : mFr M (wI M r k x) := ⟨fun q => sh_wI _ _ _ _ _, fun q k => rF_wI _ _ _ _ _ _, length_wI _ _ _ _, fun q k hq => by rw [iF_wI, if_neg (by omega)]⟩
theorem mFr.mSh {M M' : zHp} (h : mFr M M') (hs : mSh M) : mSh M' := ⟨by rw [h.1]; exact hs.1, fun j hj => by rw [h.2.1]; exact hs.2.1 j hj, fun r h1 h2 => by rw [h.1]; exact hs.2.2 r h1 h2⟩
/-- an array of the model's written at its first i places -/
def Upd (r : Nat) (f : Nat → Int) (i : Nat) (M M' : zHp) : Prop := mFr M M' ∧ RG M' ∧ (∀ q k, q ≠ r → iF M' q k = iF M q k) ∧ ∀ k, iF M' r k = if k < i then f k else iF M r k
theorem Upd.rf {r : Nat} {f : Nat → Int} {M : zHp} (h : RG M) : Upd r f 0 M M := ⟨mFr.rf M, h, fun _ _ _ => rfl, fun k => by rw [if_neg (by omega)]⟩
theorem Upd.st {r : Nat} {f : Nat → Int} {i : Nat} {M M' : zHp} {x : Int} (h : Upd r f i M M') (h1 : 30 ≤ r) (h2 : r ≤ 50) (hl : i < (sh M r).2.1) (hx : x = f i) (hg : rg x) : Upd r f (i + 1) M (wI M' r i x) := by
  obtain ⟨u1, u2, u3, u4⟩ := h
  refine ⟨u1.tr (mFr.wI M' h1 h2), RG_wI u2 hg, fun q k hq => ?_, fun k => ?_⟩
  · rw [iF_wI, if_neg (fun c => hq c.1)]
    exact u3 q k hq
  · rw [iF_wI, u1.1]
    by_cases hk : k = i
    · subst hk
      rw [if_pos ⟨rfl, rfl, hl⟩, if_pos (by omega), hx]
    · rw [if_neg (fun c => hk c.2.1), u4 k]
      by_cases hki : k < i
      · rw [if_pos hki, if_pos (by omega)]
      · rw [if_neg hki, if_neg (by omega)]
/-- the same, where the place stays as it is -/
theorem Upd.sk {r : Nat} {f : Nat → Int} {i : Nat} {M M' : zHp} (h : Upd r f i M M') (hx : iF M r i = f i) : Upd r f (i + 1) M M' := by
  obtain ⟨u1, u2, u3, u4⟩ := h
  refine ⟨u1, u2, u3, fun k => ?_⟩
  rw [u4 k]
  by_cases hk : k = i
  · subst hk
    rw [if_neg (by omega), if_pos (by omega), hx]
  · by_cases hki : k < i
    · rw [if_pos hki, if_pos (by omega)]
    · rw [if_neg hki, if_neg (by omega)]
/-- how many of the first i places have it -/
def cnt (p : Nat → Bool) (i : Nat) : Nat := ((List.range i).filter p).length
theorem cnt_s (p : Nat → Bool) (i : Nat) : cnt p (i + 1) = cnt p i + (if p i = true then 1 else 0) := by
  unfold cnt
  rw [List.range_succ, List.filter_append, List.length_append]
  congr 1
  by_cases h : p i = true
  · simp [h]
  · simp [h]
theorem cnt_le (p : Nat → Bool) (i : Nat) : cnt p i ≤ i := by
  unfold cnt
  exact Nat.le_trans (List.length_filter_le _ _) (by simp)
theorem cnt0 (p : Nat → Bool) : cnt p 0 = 0 := rfl
section MD2
variable {M : zHp} {N : Nat}
theorem m_before (h : mSh M) (hG : RG M) {a b : Nat} (ha : a < 520) (hb : b < 520) : f_Md_before 30 (a : Int) (b : Int) M = some (if befB (me M a) (me M b) = true then 1 else 0, M) := by
  unfold f_Md_before
  have a1 : (a : Int) < 4096 := by omega
  have b1 : (b : Int) < 4096 := by omega
  have e1 := zlt_iff (hG 31 a) (hG 31 b)
  have e2 := zeq_iff (hG 31 a) (hG 31 b)
  have e3 := zle_iff (hG 32 a) (hG 32 b)
  simp only [befB, eK_me, eS_me]
  simp only [↓gI_b, ↓gR_b, ↓pI_b, ↓pZ_b, ↓pR_b, ↓ldI_b, ↓ldR_b, ↓stI_b, ↓stZ_b, ↓stR_b, zk_eq, sh_wI, sh_wR, rF_wI, iF_wR, ms30 h, ms31 h, ms32 h, ms33 h, ms34 h, ms35 h, ms36 h, ms37 h, ms38 h, ms39 h, ms40 h, ms41 h, ms42 h, ms43 h, ms44 h, ms45 h, ms46 h, ms47 h, ms48 h, ms49 h, ms50 h, mr0 h, mr1 h, mr2 h, mr3 h, mr4 h, mr5 h, mr6 h, mr7 h, mr8 h, mr9 h, mr10 h, mr11 h, mr12 h, mr13 h, mr14 h, mr15 h, mr16 h, mr17 h, mr18 h, mr19 h, true_and, and_true, and_self, ↓reduceIte, Int.toNat_natCast, Int.natCast_nonneg, Nat.reduceLT, Nat.reduceLeDiff, Nat.reduceEqDiff, ne_eq, not_false_eq_true, Nat.reduceAdd, reduceCtorEq, Int.reduceLT, Int.reduceLE, Int.reduceToNat, ha, hb, a1, b1, e1, e2, e3]
  by_cases c1 : iF M 31 a < iF M 31 b
  · simp [c1]
  · by_cases c2 : iF M 31 a = iF M 31 b
    · by_cases c3 : iF M 32 a ≤ iF M 32 b
      · simp [c2, c3]
      · simp [c2, c3]
    · simp [c1, c2]
theorem m_gone (h : mSh M) (hG : RG M) {e : Nat} (he : e < 520) (hd : iF M 34 e = 0 ∨ iF M 34 e = 1) (hx : 0 ≤ iF M 35 e) : f_Md_gone 30 (e : Int) M = some (if goneB (iF M 30 0) (me M e) = true then 1 else 0, M) := by
  unfold f_Md_gone
  have a1 : (e : Int) < 4096 := by omega
  have e1 := zeq_iff (hG 34 e) rg0
  have e2 := zle_iff (hG 35 e) rg0
  have e3 := zlt_iff (hG 30 0) (hG 35 e)
  have e4 := zle_iff (hG 35 e) (hG 30 0)
  have e5 := zlt_iff rg0 (hG 35 e)
  simp only [↓gI_b, ↓gR_b, ↓pI_b, ↓pZ_b, ↓pR_b, ↓ldI_b, ↓ldR_b, ↓stI_b, ↓stZ_b, ↓stR_b, zk_eq, sh_wI, sh_wR, rF_wI, iF_wR, ms30 h, ms31 h, ms32 h, ms33 h, ms34 h, ms35 h, ms36 h, ms37 h, ms38 h, ms39 h, ms40 h, ms41 h, ms42 h, ms43 h, ms44 h, ms45 h, ms46 h, ms47 h, ms48 h, ms49 h, ms50 h, mr0 h, mr1 h, mr2 h, mr3 h, mr4 h, mr5 h, mr6 h, mr7 h, mr8 h, mr9 h, mr10 h, mr11 h, mr12 h, mr13 h, mr14 h, mr15 h, mr16 h, mr17 h, mr18 h, mr19 h, true_and, and_true, and_self, ↓reduceIte, Int.toNat_natCast, Int.natCast_nonneg, Nat.reduceLT, Nat.reduceLeDiff, Nat.reduceEqDiff, ne_eq, not_false_eq_true, Nat.reduceAdd, reduceCtorEq, Int.reduceLT, Int.reduceLE, Int.reduceToNat, he, a1, e1, e2, e3, e4, e5]
  unfold goneB me
  rcases hd with hd | hd
  · by_cases c1 : iF M 35 e = 0
    · simp [hd, c1, eD, eX]
    · by_cases c2 : iF M 30 0 < iF M 35 e
      · simp [hd, c1, c2, eD, eX, hx]
      · have c3 : ¬ iF M 35 e ≤ 0 := by omega
        have c4 : iF M 35 e ≤ iF M 30 0 := by omega
        simp [hd, c1, c2, c3, c4, eD, eX, hx]
  · simp [hd, eD]
theorem me_rg (hG : RG M) (e : Nat) : rg (eS (me M e)) := by rw [eS_me]; exact hG 32 e
end MD2
