theorem cnt_st {p : Nat → Bool} {i : Nat} (h : p i = true) (hi : i ≤ 100000) : zadd ((cnt p i : Nat) : Int) 1 = ((cnt p (i + 1) : Nat) : Int) := by
  rw [zaddN (Nat.le_trans (cnt_le p i) hi), cnt_s, if_pos h]
theorem cnt_sn {p : Nat → Bool} {i : Nat} (h : ¬ p i = true) : ((cnt p i : Nat) : Int) = ((cnt p (i + 1) : Nat) : Int) := by
  rw [cnt_s, if_neg h]; rfl
theorem allS {P : Nat → Prop} {i : Nat} (h : ∀ f, f < i → P f) (hi : P i) : ∀ f, f < i + 1 → P f := fun f hf => by
  rcases Nat.lt_succ_iff_lt_or_eq.mp hf with g | g
  · exact h f g
  · rw [g]; exact hi
section MD3
variable {M : zHp} {N : Nat}
set_option maxRecDepth 10000 in
theorem ml_size2 (h : mSh M) (hG : RG M) (hN : iF M 30 1 = (N : Int)) (hN2 : N ≤ 520) (a1 : Int) (ha : rg a1) (κ : Int → zHp → Option (Int × zHp)) : ∀ (d n i : Nat) (v : Int), i + d = N → d < n → (v = ((cnt (fun e => decide (iF M 36 e = a1)) i : Nat) : Int)) → ∃ w, f_Md_size_L4 κ 30 a1 n v (i : Int) M = κ w M ∧ (w = ((cnt (fun e => decide (iF M 36 e = a1)) N : Nat) : Int)) := by
  intro d
  induction d with
  | zero =>
    intro n i v hi hn hv
    obtain ⟨n, rfl⟩ : ∃ k, n = k + 1 := ⟨n - 1, by omega⟩
    unfold f_Md_size_L4
    have e1 : zle (N : Int) (i : Int) := (zle_iff (rgN (by omega)) (rgN (by omega))).mpr (by omega)
    have hiN : i = N := by omega
    subst hiN
    refine ⟨v, ?_, hv⟩
    simp only [↓gI_b, ↓gR_b, ↓pI_b, ↓pZ_b, ↓pR_b, ↓ldI_b, ↓ldR_b, ↓stI_b, ↓stZ_b, ↓stR_b, zk_eq, sh_wI, sh_wR, rF_wI, iF_wR, ms30 h, ms31 h, ms32 h, ms33 h, ms34 h, ms35 h, ms36 h, ms37 h, ms38 h, ms39 h, ms40 h, ms41 h, ms42 h, ms43 h, ms44 h, ms45 h, ms46 h, ms47 h, ms48 h, ms49 h, ms50 h, mr0 h, mr1 h, mr2 h, mr3 h, mr4 h, mr5 h, mr6 h, mr7 h, mr8 h, mr9 h, mr10 h, mr11 h, mr12 h, mr13 h, mr14 h, mr15 h, mr16 h, mr17 h, mr18 h, mr19 h, true_and, and_true, and_self, ↓reduceIte, Int.toNat_natCast, Int.natCast_nonneg, Nat.reduceLT, Nat.reduceLeDiff, Nat.reduceEqDiff, ne_eq, not_false_eq_true, Nat.reduceAdd, reduceCtorEq, Int.reduceLT, Int.reduceLE, Int.reduceToNat, hN, e1]
  | succ d ih =>
    intro n i v hi hn hv
    obtain ⟨n, rfl⟩ : ∃ k, n = k + 1 := ⟨n - 1, by omega⟩
    unfold f_Md_size_L4
    have e1 : ¬ zle (N : Int) (i : Int) := fun q => by have := (zle_iff (rgN (by omega)) (rgN (by omega))).mp q; omega
    have e2 : (i : Int) < 4096 := by omega
    have e3 : i < 520 := by omega
    have e5 := zaddN (i := i) (by omega)
    have e4 := zeq_iff (hG 36 i) ha
    simp only [↓gI_b, ↓gR_b, ↓pI_b, ↓pZ_b, ↓pR_b, ↓ldI_b, ↓ldR_b, ↓stI_b, ↓stZ_b, ↓stR_b, zk_eq, sh_wI, sh_wR, rF_wI, iF_wR, ms30 h, ms31 h, ms32 h, ms33 h, ms34 h, ms35 h, ms36 h, ms37 h, ms38 h, ms39 h, ms40 h, ms41 h, ms42 h, ms43 h, ms44 h, ms45 h, ms46 h, ms47 h, ms48 h, ms49 h, ms50 h, mr0 h, mr1 h, mr2 h, mr3 h, mr4 h, mr5 h, mr6 h, mr7 h, mr8 h, mr9 h, mr10 h, mr11 h, mr12 h, mr13 h, mr14 h, mr15 h, mr16 h, mr17 h, mr18 h, mr19 h, true_and, and_true, and_self, ↓reduceIte, Int.toNat_natCast, Int.natCast_nonneg, Nat.reduceLT, Nat.reduceLeDiff, Nat.reduceEqDiff, ne_eq, not_false_eq_true, Nat.reduceAdd, reduceCtorEq, Int.reduceLT, Int.reduceLE, Int.reduceToNat, hN, e1, e2, e3, e5, e4]
    by_cases c : iF M 36 i = a1
    · rw [if_pos c]
      exact ih n (i + 1) _ (by omega) (by omega) (by rw [hv]; exact cnt_st (p := fun e => decide (iF M 36 e = a1)) (by simp [c]) (by omega))
    · rw [if_neg c]
      exact ih n (i + 1) _ (by omega) (by omega) (by rw [hv]; exact cnt_sn (p := fun e => decide (iF M 36 e = a1)) (by simp [c]))
theorem m_size (h : mSh M) (hG : RG M) (hN : iF M 30 1 = (N : Int)) (hN2 : N ≤ 520) {l : Int} (hl : rg l) : f_Md_size 30 l M = some (((cnt (fun e => decide (iF M 36 e = l)) N : Nat) : Int), M) := by
  unfold f_Md_size
  obtain ⟨w, h1, h2⟩ := ml_size2 h hG hN hN2 l hl (fun v9 M10 => some (v9, M10)) N zfu 0 0 (by omega) (zfu_gt hN2) rfl
  rw [zk_eq, ms30 h]
  rw [if_pos rfl]
  rw [← h2]
  exact h1
/-- f is above e among the chosen -/
def AbC (M : zHp) (e f : Nat) : Prop := iF M 40 f ≠ 0 ∧ iF M 31 f = iF M 31 e ∧ iF M 32 e < iF M 32 f
set_option maxRecDepth 10000 in
theorem ml_above (h : mSh M) (hG : RG M) (hN : iF M 30 1 = (N : Int)) (hN2 : N ≤ 520) {x : Nat} (hx : x < 520) (κ : Int → zHp → Option (Int × zHp)) : ∀ (d n i : Nat) (v : Int), i + d = N → d < n → ((v = -1 ∧ ∀ f, f < i → ¬ AbC M x f) ∨ ∃ b, b < i ∧ v = (b : Int) ∧ AbC M x b ∧ ∀ f, f < i → AbC M x f → iF M 32 b ≤ iF M 32 f) → ∃ w, f_Md_above_L4 κ 30 (x : Int) n v (i : Int) M = κ w M ∧ ((w = -1 ∧ ∀ f, f < N → ¬ AbC M x f) ∨ ∃ b, b < N ∧ w = (b : Int) ∧ AbC M x b ∧ ∀ f, f < N → AbC M x f → iF M 32 b ≤ iF M 32 f) := by
  intro d
  induction d with
  | zero =>
    intro n i v hi hn hv
    obtain ⟨n, rfl⟩ : ∃ k, n = k + 1 := ⟨n - 1, by omega⟩
    unfold f_Md_above_L4
    have e1 : zle (N : Int) (i : Int) := (zle_iff (rgN (by omega)) (rgN (by omega))).mpr (by omega)
    have hiN : i = N := by omega
    subst hiN
    refine ⟨v, ?_, hv⟩
    simp only [↓gI_b, ↓gR_b, ↓pI_b, ↓pZ_b, ↓pR_b, ↓ldI_b, ↓ldR_b, ↓stI_b, ↓stZ_b, ↓stR_b, zk_eq, sh_wI, sh_wR, rF_wI, iF_wR, ms30 h, ms31 h, ms32 h, ms33 h, ms34 h, ms35 h, ms36 h, ms37 h, ms38 h, ms39 h, ms40 h, ms41 h, ms42 h, ms43 h, ms44 h, ms45 h, ms46 h, ms47 h, ms48 h, ms49 h, ms50 h, mr0 h, mr1 h, mr2 h, mr3 h, mr4 h, mr5 h, mr6 h, mr7 h, mr8 h, mr9 h, mr10 h, mr11 h, mr12 h, mr13 h, mr14 h, mr15 h, mr16 h, mr17 h, mr18 h, mr19 h, true_and, and_true, and_self, ↓reduceIte, Int.toNat_natCast, Int.natCast_nonneg, Nat.reduceLT, Nat.reduceLeDiff, Nat.reduceEqDiff, ne_eq, not_false_eq_true, Nat.reduceAdd, reduceCtorEq, Int.reduceLT, Int.reduceLE, Int.reduceToNat, hN, e1]
  | succ d ih =>
    intro n i v hi hn hv
    obtain ⟨n, rfl⟩ : ∃ k, n = k + 1 := ⟨n - 1, by omega⟩
    unfold f_Md_above_L4
    have e1 : ¬ zle (N : Int) (i : Int) := fun q => by have := (zle_iff (rgN (by omega)) (rgN (by omega))).mp q; omega
    have e2 : (i : Int) < 4096 := by omega
    have e3 : i < 520 := by omega
    have e5 := zaddN (i := i) (by omega)
    have x1 : (x : Int) < 4096 := by omega
    have e6 := zeq_iff (hG 40 i) rg0
    have e7 := zeq_iff (hG 31 i) (hG 31 x)
    have e8 := zle_iff (hG 32 i) (hG 32 x)
    by_cases c1 : iF M 40 i = 0
    · simp only [↓gI_b, ↓gR_b, ↓pI_b, ↓pZ_b, ↓pR_b, ↓ldI_b, ↓ldR_b, ↓stI_b, ↓stZ_b, ↓stR_b, zk_eq, sh_wI, sh_wR, rF_wI, iF_wR, ms30 h, ms31 h, ms32 h, ms33 h, ms34 h, ms35 h, ms36 h, ms37 h, ms38 h, ms39 h, ms40 h, ms41 h, ms42 h, ms43 h, ms44 h, ms45 h, ms46 h, ms47 h, ms48 h, ms49 h, ms50 h, mr0 h, mr1 h, mr2 h, mr3 h, mr4 h, mr5 h, mr6 h, mr7 h, mr8 h, mr9 h, mr10 h, mr11 h, mr12 h, mr13 h, mr14 h, mr15 h, mr16 h, mr17 h, mr18 h, mr19 h, true_and, and_true, and_self, ↓reduceIte, Int.toNat_natCast, Int.natCast_nonneg, Nat.reduceLT, Nat.reduceLeDiff, Nat.reduceEqDiff, ne_eq, not_false_eq_true, Nat.reduceAdd, reduceCtorEq, Int.reduceLT, Int.reduceLE, Int.reduceToNat, hN, e1, e2, e3, e5, e6, eq_true c1]
      refine ih n (i + 1) v (by omega) (by omega) ?_
      have hn1 : ¬ AbC M x i := fun q => q.1 c1
      rcases hv with ⟨hv, hf⟩ | ⟨b, hb, hv, hB, hm⟩
      · exact Or.inl ⟨hv, fun f hf1 => allS hf hn1 f hf1⟩
      · exact Or.inr ⟨b, by omega, hv, hB, fun f hf1 hF => allS (P := fun f => AbC M x f → iF M 32 b ≤ iF M 32 f) hm (fun q => absurd q hn1) f hf1 hF⟩
    by_cases c2 : ¬ iF M 31 i = iF M 31 x
    · simp only [↓gI_b, ↓gR_b, ↓pI_b, ↓pZ_b, ↓pR_b, ↓ldI_b, ↓ldR_b, ↓stI_b, ↓stZ_b, ↓stR_b, zk_eq, sh_wI, sh_wR, rF_wI, iF_wR, ms30 h, ms31 h, ms32 h, ms33 h, ms34 h, ms35 h, ms36 h, ms37 h, ms38 h, ms39 h, ms40 h, ms41 h, ms42 h, ms43 h, ms44 h, ms45 h, ms46 h, ms47 h, ms48 h, ms49 h, ms50 h, mr0 h, mr1 h, mr2 h, mr3 h, mr4 h, mr5 h, mr6 h, mr7 h, mr8 h, mr9 h, mr10 h, mr11 h, mr12 h, mr13 h, mr14 h, mr15 h, mr16 h, mr17 h, mr18 h, mr19 h, true_and, and_true, and_self, ↓reduceIte, Int.toNat_natCast, Int.natCast_nonneg, Nat.reduceLT, Nat.reduceLeDiff, Nat.reduceEqDiff, ne_eq, not_false_eq_true, Nat.reduceAdd, reduceCtorEq, Int.reduceLT, Int.reduceLE, Int.reduceToNat, hN, e1, e2, e3, e5, e6, e7, x1, hx, c1, c2]
      refine ih n (i + 1) v (by omega) (by omega) ?_
      have hn1 : ¬ AbC M x i := fun q => c2 q.2.1
      rcases hv with ⟨hv, hf⟩ | ⟨b, hb, hv, hB, hm⟩
      · exact Or.inl ⟨hv, fun f hf1 => allS hf hn1 f hf1⟩
      · exact Or.inr ⟨b, by omega, hv, hB, fun f hf1 hF => allS (P := fun f => AbC M x f → iF M 32 b ≤ iF M 32 f) hm (fun q => absurd q hn1) f hf1 hF⟩
    have c2 := Decidable.not_not.mp c2
    by_cases c3 : iF M 32 i ≤ iF M 32 x
    · simp only [↓gI_b, ↓gR_b, ↓pI_b, ↓pZ_b, ↓pR_b, ↓ldI_b, ↓ldR_b, ↓stI_b, ↓stZ_b, ↓stR_b, zk_eq, sh_wI, sh_wR, rF_wI, iF_wR, ms30 h, ms31 h, ms32 h, ms33 h, ms34 h, ms35 h, ms36 h, ms37 h, ms38 h, ms39 h, ms40 h, ms41 h, ms42 h, ms43 h, ms44 h, ms45 h, ms46 h, ms47 h, ms48 h, ms49 h, ms50 h, mr0 h, mr1 h, mr2 h, mr3 h, mr4 h, mr5 h, mr6 h, mr7 h, mr8 h, mr9 h, mr10 h, mr11 h, mr12 h, mr13 h, mr14 h, mr15 h, mr16 h, mr17 h, mr18 h, mr19 h, true_and, and_true, and_self, ↓reduceIte, Int.toNat_natCast, Int.natCast_nonneg, Nat.reduceLT, Nat.reduceLeDiff, Nat.reduceEqDiff, ne_eq, not_false_eq_true, Nat.reduceAdd, reduceCtorEq, Int.reduceLT, Int.reduceLE, Int.reduceToNat, hN, e1, e2, e3, e5, e6, e7, e8, x1, hx, c1, eq_true c2, c3]
      refine ih n (i + 1) v (by omega) (by omega) ?_
      have hn1 : ¬ AbC M x i := fun q => by have := q.2.2; omega
      rcases hv with ⟨hv, hf⟩ | ⟨b, hb, hv, hB, hm⟩
      · exact Or.inl ⟨hv, fun f hf1 => allS hf hn1 f hf1⟩
      · exact Or.inr ⟨b, by omega, hv, hB, fun f hf1 hF => allS (P := fun f => AbC M x f → iF M 32 b ≤ iF M 32 f) hm (fun q => absurd q hn1) f hf1 hF⟩
    have hA : AbC M x i := ⟨c1, c2, by omega⟩
    rcases hv with ⟨hv, hf⟩ | ⟨b, hb, hv, hB, hm⟩
    · subst hv
      have e9 : zlt (-1) 0 := by decide
      simp only [↓gI_b, ↓gR_b, ↓pI_b, ↓pZ_b, ↓pR_b, ↓ldI_b, ↓ldR_b, ↓stI_b, ↓stZ_b, ↓stR_b, zk_eq, sh_wI, sh_wR, rF_wI, iF_wR, ms30 h, ms31 h, ms32 h, ms33 h, ms34 h, ms35 h, ms36 h, ms37 h, ms38 h, ms39 h, ms40 h, ms41 h, ms42 h, ms43 h, ms44 h, ms45 h, ms46 h, ms47 h, ms48 h, ms49 h, ms50 h, mr0 h, mr1 h, mr2 h, mr3 h, mr4 h, mr5 h, mr6 h, mr7 h, mr8 h, mr9 h, mr10 h, mr11 h, mr12 h, mr13 h, mr14 h, mr15 h, mr16 h, mr17 h, mr18 h, mr19 h, true_and, and_true, and_self, ↓reduceIte, Int.toNat_natCast, Int.natCast_nonneg, Nat.reduceLT, Nat.reduceLeDiff, Nat.reduceEqDiff, ne_eq, not_false_eq_true, Nat.reduceAdd, reduceCtorEq, Int.reduceLT, Int.reduceLE, Int.reduceToNat, hN, e1, e2, e3, e5, e6, e7, e8, e9, x1, hx, c1, eq_true c2, c3]
      exact ih n (i + 1) _ (by omega) (by omega) (Or.inr ⟨i, by omega, rfl, hA, fun f hf1 hF => allS (P := fun f => AbC M x f → iF M 32 i ≤ iF M 32 f) (fun f g q => absurd q (hf f g)) (fun _ => Int.le_refl _) f hf1 hF⟩)
    · subst hv
      have e9 : ¬ zlt (b : Int) 0 := fun q => by have := (zlt_iff (rgN (by omega)) rg0).mp q; omega
      have b1 : (b : Int) < 4096 := by omega
      have b2 : b < 520 := by omega
      have e10 := zle_iff (hG 32 b) (hG 32 i)
      by_cases c4 : iF M 32 b ≤ iF M 32 i
      · simp only [↓gI_b, ↓gR_b, ↓pI_b, ↓pZ_b, ↓pR_b, ↓ldI_b, ↓ldR_b, ↓stI_b, ↓stZ_b, ↓stR_b, zk_eq, sh_wI, sh_wR, rF_wI, iF_wR, ms30 h, ms31 h, ms32 h, ms33 h, ms34 h, ms35 h, ms36 h, ms37 h, ms38 h, ms39 h, ms40 h, ms41 h, ms42 h, ms43 h, ms44 h, ms45 h, ms46 h, ms47 h, ms48 h, ms49 h, ms50 h, mr0 h, mr1 h, mr2 h, mr3 h, mr4 h, mr5 h, mr6 h, mr7 h, mr8 h, mr9 h, mr10 h, mr11 h, mr12 h, mr13 h, mr14 h, mr15 h, mr16 h, mr17 h, mr18 h, mr19 h, true_and, and_true, and_self, ↓reduceIte, Int.toNat_natCast, Int.natCast_nonneg, Nat.reduceLT, Nat.reduceLeDiff, Nat.reduceEqDiff, ne_eq, not_false_eq_true, Nat.reduceAdd, reduceCtorEq, Int.reduceLT, Int.reduceLE, Int.reduceToNat, hN, e1, e2, e3, e5, e6, e7, e8, e9, e10, b1, b2, x1, hx, c1, eq_true c2, c3, c4]
        exact ih n (i + 1) _ (by omega) (by omega) (Or.inr ⟨b, by omega, rfl, hB, fun f hf1 hF => allS (P := fun f => AbC M x f → iF M 32 b ≤ iF M 32 f) hm (fun _ => c4) f hf1 hF⟩)
      · simp only [↓gI_b, ↓gR_b, ↓pI_b, ↓pZ_b, ↓pR_b, ↓ldI_b, ↓ldR_b, ↓stI_b, ↓stZ_b, ↓stR_b, zk_eq, sh_wI, sh_wR, rF_wI, iF_wR, ms30 h, ms31 h, ms32 h, ms33 h, ms34 h, ms35 h, ms36 h, ms37 h, ms38 h, ms39 h, ms40 h, ms41 h, ms42 h, ms43 h, ms44 h, ms45 h, ms46 h, ms47 h, ms48 h, ms49 h, ms50 h, mr0 h, mr1 h, mr2 h, mr3 h, mr4 h, mr5 h, mr6 h, mr7 h, mr8 h, mr9 h, mr10 h, mr11 h, mr12 h, mr13 h, mr14 h, mr15 h, mr16 h, mr17 h, mr18 h, mr19 h, true_and, and_true, and_self, ↓reduceIte, Int.toNat_natCast, Int.natCast_nonneg, Nat.reduceLT, Nat.reduceLeDiff, Nat.reduceEqDiff, ne_eq, not_false_eq_true, Nat.reduceAdd, reduceCtorEq, Int.reduceLT, Int.reduceLE, Int.reduceToNat, hN, e1, e2, e3, e5, e6, e7, e8, e9, e10, b1, b2, x1, hx, c1, eq_true c2, c3, c4]
        exact ih n (i + 1) _ (by omega) (by omega) (Or.inr ⟨i, by omega, rfl, hA, fun f hf1 hF => allS (P := fun f => AbC M x f → iF M 32 i ≤ iF M 32 f) (fun f g q => by have := hm f g q; omega) (fun _ => Int.le_refl _) f hf1 hF⟩)
theorem m_above (h : mSh M) (hG : RG M) (hN : iF M 30 1 = (N : Int)) (hN2 : N ≤ 520) {x : Nat} (hx : x < 520) : ∃ w, f_Md_above 30 (x : Int) M = some (w, M) ∧ ((w = -1 ∧ ∀ f, f < N → ¬ AbC M x f) ∨ ∃ b, b < N ∧ w = (b : Int) ∧ AbC M x b ∧ ∀ f, f < N → AbC M x f → iF M 32 b ≤ iF M 32 f) := by
  unfold f_Md_above
  obtain ⟨w, h1, h2⟩ := ml_above h hG hN hN2 hx (fun v9 M10 => some (v9, M10)) N zfu 0 (-1) (by omega) (zfu_gt hN2) (Or.inl ⟨rfl, fun f hf => by omega⟩)
  rw [zk_eq, ms30 h]
  rw [if_pos rfl]
  exact ⟨w, h1, h2⟩
/-- something that the first pass leaves lies below e -/
def LoC (M : zHp) (e f : Nat) : Prop := iF M 40 f ≠ 0 ∧ iF M 41 f = 0 ∧ iF M 31 f = iF M 31 e ∧ iF M 32 f < iF M 32 e
set_option maxRecDepth 10000 in
theorem ml_low (h : mSh M) (hG : RG M) (hN : iF M 30 1 = (N : Int)) (hN2 : N ≤ 520) {x : Nat} (hx : x < 520) (κ : Int → zHp → Option (Int × zHp)) : ∀ (d n i : Nat) (v : Int), i + d = N → d < n → ((v = 1 ∧ ∀ f, f < i → ¬ LoC M x f) ∨ (v = 0 ∧ ∃ f, f < i ∧ LoC M x f)) → ∃ w, f_Md_isLowest_L4 κ 30 (x : Int) n v (i : Int) M = κ w M ∧ ((w = 1 ∧ ∀ f, f < N → ¬ LoC M x f) ∨ (w = 0 ∧ ∃ f, f < N ∧ LoC M x f)) := by
  intro d
  induction d with
  | zero =>
    intro n i v hi hn hv
    obtain ⟨n, rfl⟩ : ∃ k, n = k + 1 := ⟨n - 1, by omega⟩
    unfold f_Md_isLowest_L4
    have e1 : zle (N : Int) (i : Int) := (zle_iff (rgN (by omega)) (rgN (by omega))).mpr (by omega)
    have hiN : i = N := by omega
    subst hiN
    refine ⟨v, ?_, hv⟩
    simp only [↓gI_b, ↓gR_b, ↓pI_b, ↓pZ_b, ↓pR_b, ↓ldI_b, ↓ldR_b, ↓stI_b, ↓stZ_b, ↓stR_b, zk_eq, sh_wI, sh_wR, rF_wI, iF_wR, ms30 h, ms31 h, ms32 h, ms33 h, ms34 h, ms35 h, ms36 h, ms37 h, ms38 h, ms39 h, ms40 h, ms41 h, ms42 h, ms43 h, ms44 h, ms45 h, ms46 h, ms47 h, ms48 h, ms49 h, ms50 h, mr0 h, mr1 h, mr2 h, mr3 h, mr4 h, mr5 h, mr6 h, mr7 h, mr8 h, mr9 h, mr10 h, mr11 h, mr12 h, mr13 h, mr14 h, mr15 h, mr16 h, mr17 h, mr18 h, mr19 h, true_and, and_true, and_self, ↓reduceIte, Int.toNat_natCast, Int.natCast_nonneg, Nat.reduceLT, Nat.reduceLeDiff, Nat.reduceEqDiff, ne_eq, not_false_eq_true, Nat.reduceAdd, reduceCtorEq, Int.reduceLT, Int.reduceLE, Int.reduceToNat, hN, e1]
  | succ d ih =>
    intro n i v hi hn hv
    obtain ⟨n, rfl⟩ : ∃ k, n = k + 1 := ⟨n - 1, by omega⟩
    unfold f_Md_isLowest_L4
    have e1 : ¬ zle (N : Int) (i : Int) := fun q => by have := (zle_iff (rgN (by omega)) (rgN (by omega))).mp q; omega
    have e2 : (i : Int) < 4096 := by omega
    have e3 : i < 520 := by omega
    have e5 := zaddN (i := i) (by omega)
    have x1 : (x : Int) < 4096 := by omega
    have e6 := zeq_iff (hG 40 i) rg0
    have e7 := zeq_iff (hG 41 i) rg0
    have e8 := zeq_iff (hG 31 i) (hG 31 x)
    have e9 := zle_iff (hG 32 x) (hG 32 i)
    by_cases c1 : iF M 40 i = 0
    · simp only [↓gI_b, ↓gR_b, ↓pI_b, ↓pZ_b, ↓pR_b, ↓ldI_b, ↓ldR_b, ↓stI_b, ↓stZ_b, ↓stR_b, zk_eq, sh_wI, sh_wR, rF_wI, iF_wR, ms30 h, ms31 h, ms32 h, ms33 h, ms34 h, ms35 h, ms36 h, ms37 h, ms38 h, ms39 h, ms40 h, ms41 h, ms42 h, ms43 h, ms44 h, ms45 h, ms46 h, ms47 h, ms48 h, ms49 h, ms50 h, mr0 h, mr1 h, mr2 h, mr3 h, mr4 h, mr5 h, mr6 h, mr7 h, mr8 h, mr9 h, mr10 h, mr11 h, mr12 h, mr13 h, mr14 h, mr15 h, mr16 h, mr17 h, mr18 h, mr19 h, true_and, and_true, and_self, ↓reduceIte, Int.toNat_natCast, Int.natCast_nonneg, Nat.reduceLT, Nat.reduceLeDiff, Nat.reduceEqDiff, ne_eq, not_false_eq_true, Nat.reduceAdd, reduceCtorEq, Int.reduceLT, Int.reduceLE, Int.reduceToNat, hN, e1, e2, e3, e5, e6, e7, e8, e9, x1, hx, eq_true c1]
      refine ih n (i + 1) v (by omega) (by omega) ?_
      have hn1 : ¬ LoC M x i := fun q => q.1 c1
      rcases hv with ⟨hv, hf⟩ | ⟨hv, f, hf, hF⟩
      · exact Or.inl ⟨hv, fun f hf1 => allS hf hn1 f hf1⟩
      · exact Or.inr ⟨hv, f, by omega, hF⟩
    by_cases c2 : ¬ iF M 41 i = 0
    · simp only [↓gI_b, ↓gR_b, ↓pI_b, ↓pZ_b, ↓pR_b, ↓ldI_b, ↓ldR_b, ↓stI_b, ↓stZ_b, ↓stR_b, zk_eq, sh_wI, sh_wR, rF_wI, iF_wR, ms30 h, ms31 h, ms32 h, ms33 h, ms34 h, ms35 h, ms36 h, ms37 h, ms38 h, ms39 h, ms40 h, ms41 h, ms42 h, ms43 h, ms44 h, ms45 h, ms46 h, ms47 h, ms48 h, ms49 h, ms50 h, mr0 h, mr1 h, mr2 h, mr3 h, mr4 h, mr5 h, mr6 h, mr7 h, mr8 h, mr9 h, mr10 h, mr11 h, mr12 h, mr13 h, mr14 h, mr15 h, mr16 h, mr17 h, mr18 h, mr19 h, true_and, and_true, and_self, ↓reduceIte, Int.toNat_natCast, Int.natCast_nonneg, Nat.reduceLT, Nat.reduceLeDiff, Nat.reduceEqDiff, ne_eq, not_false_eq_true, Nat.reduceAdd, reduceCtorEq, Int.reduceLT, Int.reduceLE, Int.reduceToNat, hN, e1, e2, e3, e5, e6, e7, e8, e9, x1, hx, c1, c2]
      refine ih n (i + 1) v (by omega) (by omega) ?_
      have hn1 : ¬ LoC M x i := fun q => c2 q.2.1
      rcases hv with ⟨hv, hf⟩ | ⟨hv, f, hf, hF⟩
      · exact Or.inl ⟨hv, fun f hf1 => allS hf hn1 f hf1⟩
      · exact Or.inr ⟨hv, f, by omega, hF⟩
    have c2 := Decidable.not_not.mp c2
    by_cases c3 : ¬ iF M 31 i = iF M 31 x
    · simp only [↓gI_b, ↓gR_b, ↓pI_b, ↓pZ_b, ↓pR_b, ↓ldI_b, ↓ldR_b, ↓stI_b, ↓stZ_b, ↓stR_b, zk_eq, sh_wI, sh_wR, rF_wI, iF_wR, ms30 h, ms31 h, ms32 h, ms33 h, ms34 h, ms35 h, ms36 h, ms37 h, ms38 h, ms39 h, ms40 h, ms41 h, ms42 h, ms43 h, ms44 h, ms45 h, ms46 h, ms47 h, ms48 h, ms49 h, ms50 h, mr0 h, mr1 h, mr2 h, mr3 h, mr4 h, mr5 h, mr6 h, mr7 h, mr8 h, mr9 h, mr10 h, mr11 h, mr12 h, mr13 h, mr14 h, mr15 h, mr16 h, mr17 h, mr18 h, mr19 h, true_and, and_true, and_self, ↓reduceIte, Int.toNat_natCast, Int.natCast_nonneg, Nat.reduceLT, Nat.reduceLeDiff, Nat.reduceEqDiff, ne_eq, not_false_eq_true, Nat.reduceAdd, reduceCtorEq, Int.reduceLT, Int.reduceLE, Int.reduceToNat, hN, e1, e2, e3, e5, e6, e7, e8, e9, x1, hx, c1, eq_true c2, c3]
      refine ih n (i + 1) v (by omega) (by omega) ?_
      have hn1 : ¬ LoC M x i := fun q => c3 q.2.2.1
      rcases hv with ⟨hv, hf⟩ | ⟨hv, f, hf, hF⟩
      · exact Or.inl ⟨hv, fun f hf1 => allS hf hn1 f hf1⟩
      · exact Or.inr ⟨hv, f, by omega, hF⟩
    have c3 := Decidable.not_not.mp c3
    by_cases c4 : iF M 32 x ≤ iF M 32 i
    · simp only [↓gI_b, ↓gR_b, ↓pI_b, ↓pZ_b, ↓pR_b, ↓ldI_b, ↓ldR_b, ↓stI_b, ↓stZ_b, ↓stR_b, zk_eq, sh_wI, sh_wR, rF_wI, iF_wR, ms30 h, ms31 h, ms32 h, ms33 h, ms34 h, ms35 h, ms36 h, ms37 h, ms38 h, ms39 h, ms40 h, ms41 h, ms42 h, ms43 h, ms44 h, ms45 h, ms46 h, ms47 h, ms48 h, ms49 h, ms50 h, mr0 h, mr1 h, mr2 h, mr3 h, mr4 h, mr5 h, mr6 h, mr7 h, mr8 h, mr9 h, mr10 h, mr11 h, mr12 h, mr13 h, mr14 h, mr15 h, mr16 h, mr17 h, mr18 h, mr19 h, true_and, and_true, and_self, ↓reduceIte, Int.toNat_natCast, Int.natCast_nonneg, Nat.reduceLT, Nat.reduceLeDiff, Nat.reduceEqDiff, ne_eq, not_false_eq_true, Nat.reduceAdd, reduceCtorEq, Int.reduceLT, Int.reduceLE, Int.reduceToNat, hN, e1, e2, e3, e5, e6, e7, e8, e9, x1, hx, c1, eq_true c2, eq_true c3, c4]
      refine ih n (i + 1) v (by omega) (by omega) ?_
      have hn1 : ¬ LoC M x i := fun q => by have := q.2.2.2; omega
      rcases hv with ⟨hv, hf⟩ | ⟨hv, f, hf, hF⟩
      · exact Or.inl ⟨hv, fun f hf1 => allS hf hn1 f hf1⟩
      · exact Or.inr ⟨hv, f, by omega, hF⟩
    simp only [↓gI_b, ↓gR_b, ↓pI_b, ↓pZ_b, ↓pR_b, ↓ldI_b, ↓ldR_b, ↓stI_b, ↓stZ_b, ↓stR_b, zk_eq, sh_wI, sh_wR, rF_wI, iF_wR, ms30 h, ms31 h, ms32 h, ms33 h, ms34 h, ms35 h, ms36 h, ms37 h, ms38 h, ms39 h, ms40 h, ms41 h, ms42 h, ms43 h, ms44 h, ms45 h, ms46 h, ms47 h, ms48 h, ms49 h, ms50 h, mr0 h, mr1 h, mr2 h, mr3 h, mr4 h, mr5 h, mr6 h, mr7 h, mr8 h, mr9 h, mr10 h, mr11 h, mr12 h, mr13 h, mr14 h, mr15 h, mr16 h, mr17 h, mr18 h, mr19 h, true_and, and_true, and_self, ↓reduceIte, Int.toNat_natCast, Int.natCast_nonneg, Nat.reduceLT, Nat.reduceLeDiff, Nat.reduceEqDiff, ne_eq, not_false_eq_true, Nat.reduceAdd, reduceCtorEq, Int.reduceLT, Int.reduceLE, Int.reduceToNat, hN, e1, e2, e3, e5, e6, e7, e8, e9, x1, hx, c1, eq_true c2, eq_true c3, c4]
    exact ih n (i + 1) _ (by omega) (by omega) (Or.inr ⟨rfl, i, by omega, c1, c2, c3, by omega⟩)
theorem m_low (h : mSh M) (hG : RG M) (hN : iF M 30 1 = (N : Int)) (hN2 : N ≤ 520) {x : Nat} (hx : x < 520) : ∃ w, f_Md_isLowest 30 (x : Int) M = some (w, M) ∧ ((w = 1 ∧ ∀ f, f < N → ¬ LoC M x f) ∨ (w = 0 ∧ ∃ f, f < N ∧ LoC M x f)) := by
  unfold f_Md_isLowest
  obtain ⟨w, h1, h2⟩ := ml_low h hG hN hN2 hx (fun v9 M10 => if zbl v9 = true then some (v9, M10) else none) N zfu 0 1 (by omega) (zfu_gt hN2) (Or.inl ⟨rfl, fun f hf => by omega⟩)
  rw [zk_eq, ms30 h]
  rw [if_pos rfl]
  refine ⟨w, ?_, h2⟩
  refine h1.trans ?_
  rcases h2 with ⟨rfl, -⟩ | ⟨rfl, -⟩ <;> rfl
/-- a snapshot sees a and not b -/
def PtC (M : zHp) (a b s : Nat) : Prop := iF M 45 s ≠ 0 ∧ iF M 32 a ≤ iF M 46 s ∧ iF M 46 s < iF M 32 b
set_option maxRecDepth 10000 in
theorem ml_parted (h : mSh M) (hG : RG M) {x y : Nat} (hx : x < 520) (hy : y < 520) (κ : Int → zHp → Option (Int × zHp)) : ∀ (d n i : Nat) (v : Int), i + d = 3 → d < n → ((v = 0 ∧ ∀ f, f < i → ¬ PtC M x y f) ∨ (v = 1 ∧ ∃ f, f < i ∧ PtC M x y f)) → ∃ w, f_Md_parted_L5 κ 30 (x : Int) (y : Int) n v (i : Int) M = κ w M ∧ ((w = 0 ∧ ∀ f, f < 3 → ¬ PtC M x y f) ∨ (w = 1 ∧ ∃ f, f < 3 ∧ PtC M x y f)) := by
  intro d
  induction d with
  | zero =>
    intro n i v hi hn hv
    obtain ⟨n, rfl⟩ : ∃ k, n = k + 1 := ⟨n - 1, by omega⟩
    unfold f_Md_parted_L5
    have e1 : zle 3 (i : Int) := (zle_iff (by unfold rg; omega) (rgN (by omega))).mpr (by omega)
    have hiN : i = 3 := by omega
    subst hiN
    refine ⟨v, ?_, hv⟩
    simp only [↓gI_b, ↓gR_b, ↓pI_b, ↓pZ_b, ↓pR_b, ↓ldI_b, ↓ldR_b, ↓stI_b, ↓stZ_b, ↓stR_b, zk_eq, sh_wI, sh_wR, rF_wI, iF_wR, ms30 h, ms31 h, ms32 h, ms33 h, ms34 h, ms35 h, ms36 h, ms37 h, ms38 h, ms39 h, ms40 h, ms41 h, ms42 h, ms43 h, ms44 h, ms45 h, ms46 h, ms47 h, ms48 h, ms49 h, ms50 h, mr0 h, mr1 h, mr2 h, mr3 h, mr4 h, mr5 h, mr6 h, mr7 h, mr8 h, mr9 h, mr10 h, mr11 h, mr12 h, mr13 h, mr14 h, mr15 h, mr16 h, mr17 h, mr18 h, mr19 h, true_and, and_true, and_self, ↓reduceIte, Int.toNat_natCast, Int.natCast_nonneg, Nat.reduceLT, Nat.reduceLeDiff, Nat.reduceEqDiff, ne_eq, not_false_eq_true, Nat.reduceAdd, reduceCtorEq, Int.reduceLT, Int.reduceLE, Int.reduceToNat, e1]
  | succ d ih =>
    intro n i v hi hn hv
    obtain ⟨n, rfl⟩ : ∃ k, n = k + 1 := ⟨n - 1, by omega⟩
    unfold f_Md_parted_L5
    have e1 : ¬ zle 3 (i : Int) := fun q => by have := (zle_iff (by unfold rg; omega) (rgN (by omega))).mp q; omega
    have e2 : (i : Int) < 4096 := by omega
    have e3 : i < 520 := by omega
    have e5 := zaddN (i := i) (by omega)
    have e4 : i < 3 := by omega
    have x1 : (x : Int) < 4096 := by omega
    have y1 : (y : Int) < 4096 := by omega
    have e6 := zeq_iff (hG 45 i) rg0
    have e7 := zlt_iff (hG 46 i) (hG 32 x)
    have e8 := zle_iff (hG 32 y) (hG 46 i)
    rcases hv.symm with ⟨rfl, f, hf, hF⟩ | ⟨rfl, hf⟩
    · have z1 : ¬ zeq 1 0 := by decide
      simp only [↓gI_b, ↓gR_b, ↓pI_b, ↓pZ_b, ↓pR_b, ↓ldI_b, ↓ldR_b, ↓stI_b, ↓stZ_b, ↓stR_b, zk_eq, sh_wI, sh_wR, rF_wI, iF_wR, ms30 h, ms31 h, ms32 h, ms33 h, ms34 h, ms35 h, ms36 h, ms37 h, ms38 h, ms39 h, ms40 h, ms41 h, ms42 h, ms43 h, ms44 h, ms45 h, ms46 h, ms47 h, ms48 h, ms49 h, ms50 h, mr0 h, mr1 h, mr2 h, mr3 h, mr4 h, mr5 h, mr6 h, mr7 h, mr8 h, mr9 h, mr10 h, mr11 h, mr12 h, mr13 h, mr14 h, mr15 h, mr16 h, mr17 h, mr18 h, mr19 h, true_and, and_true, and_self, ↓reduceIte, Int.toNat_natCast, Int.natCast_nonneg, Nat.reduceLT, Nat.reduceLeDiff, Nat.reduceEqDiff, ne_eq, not_false_eq_true, Nat.reduceAdd, reduceCtorEq, Int.reduceLT, Int.reduceLE, Int.reduceToNat, e1, e2, e3, e5, z1]
      exact ih n (i + 1) 1 (by omega) (by omega) (Or.inr ⟨rfl, f, by omega, hF⟩)
    have z0 : zeq 0 0 := by decide
    by_cases c1 : iF M 45 i = 0
    · simp only [↓gI_b, ↓gR_b, ↓pI_b, ↓pZ_b, ↓pR_b, ↓ldI_b, ↓ldR_b, ↓stI_b, ↓stZ_b, ↓stR_b, zk_eq, sh_wI, sh_wR, rF_wI, iF_wR, ms30 h, ms31 h, ms32 h, ms33 h, ms34 h, ms35 h, ms36 h, ms37 h, ms38 h, ms39 h, ms40 h, ms41 h, ms42 h, ms43 h, ms44 h, ms45 h, ms46 h, ms47 h, ms48 h, ms49 h, ms50 h, mr0 h, mr1 h, mr2 h, mr3 h, mr4 h, mr5 h, mr6 h, mr7 h, mr8 h, mr9 h, mr10 h, mr11 h, mr12 h, mr13 h, mr14 h, mr15 h, mr16 h, mr17 h, mr18 h, mr19 h, true_and, and_true, and_self, ↓reduceIte, Int.toNat_natCast, Int.natCast_nonneg, Nat.reduceLT, Nat.reduceLeDiff, Nat.reduceEqDiff, ne_eq, not_false_eq_true, Nat.reduceAdd, reduceCtorEq, Int.reduceLT, Int.reduceLE, Int.reduceToNat, e1, e2, e3, e4, e5, e6, e7, e8, x1, hx, y1, hy, z0, eq_true c1]
      refine ih n (i + 1) 0 (by omega) (by omega) (Or.inl ⟨rfl, fun f hf1 => allS hf (fun q => q.1 c1) f hf1⟩)
    by_cases c2 : iF M 46 i < iF M 32 x
    · simp only [↓gI_b, ↓gR_b, ↓pI_b, ↓pZ_b, ↓pR_b, ↓ldI_b, ↓ldR_b, ↓stI_b, ↓stZ_b, ↓stR_b, zk_eq, sh_wI, sh_wR, rF_wI, iF_wR, ms30 h, ms31 h, ms32 h, ms33 h, ms34 h, ms35 h, ms36 h, ms37 h, ms38 h, ms39 h, ms40 h, ms41 h, ms42 h, ms43 h, ms44 h, ms45 h, ms46 h, ms47 h, ms48 h, ms49 h, ms50 h, mr0 h, mr1 h, mr2 h, mr3 h, mr4 h, mr5 h, mr6 h, mr7 h, mr8 h, mr9 h, mr10 h, mr11 h, mr12 h, mr13 h, mr14 h, mr15 h, mr16 h, mr17 h, mr18 h, mr19 h, true_and, and_true, and_self, ↓reduceIte, Int.toNat_natCast, Int.natCast_nonneg, Nat.reduceLT, Nat.reduceLeDiff, Nat.reduceEqDiff, ne_eq, not_false_eq_true, Nat.reduceAdd, reduceCtorEq, Int.reduceLT, Int.reduceLE, Int.reduceToNat, e1, e2, e3, e4, e5, e6, e7, e8, x1, hx, y1, hy, z0, c1, c2]
      refine ih n (i + 1) 0 (by omega) (by omega) (Or.inl ⟨rfl, fun f hf1 => allS hf (fun q => by have := q.2.1; omega) f hf1⟩)
    by_cases c3 : iF M 32 y ≤ iF M 46 i
    · simp only [↓gI_b, ↓gR_b, ↓pI_b, ↓pZ_b, ↓pR_b, ↓ldI_b, ↓ldR_b, ↓stI_b, ↓stZ_b, ↓stR_b, zk_eq, sh_wI, sh_wR, rF_wI, iF_wR, ms30 h, ms31 h, ms32 h, ms33 h, ms34 h, ms35 h, ms36 h, ms37 h, ms38 h, ms39 h, ms40 h, ms41 h, ms42 h, ms43 h, ms44 h, ms45 h, ms46 h, ms47 h, ms48 h, ms49 h, ms50 h, mr0 h, mr1 h, mr2 h, mr3 h, mr4 h, mr5 h, mr6 h, mr7 h, mr8 h, mr9 h, mr10 h, mr11 h, mr12 h, mr13 h, mr14 h, mr15 h, mr16 h, mr17 h, mr18 h, mr19 h, true_and, and_true, and_self, ↓reduceIte, Int.toNat_natCast, Int.natCast_nonneg, Nat.reduceLT, Nat.reduceLeDiff, Nat.reduceEqDiff, ne_eq, not_false_eq_true, Nat.reduceAdd, reduceCtorEq, Int.reduceLT, Int.reduceLE, Int.reduceToNat, e1, e2, e3, e4, e5, e6, e7, e8, x1, hx, y1, hy, z0, c1, c2, c3]
      refine ih n (i + 1) 0 (by omega) (by omega) (Or.inl ⟨rfl, fun f hf1 => allS hf (fun q => by have := q.2.2; omega) f hf1⟩)
    simp only [↓gI_b, ↓gR_b, ↓pI_b, ↓pZ_b, ↓pR_b, ↓ldI_b, ↓ldR_b, ↓stI_b, ↓stZ_b, ↓stR_b, zk_eq, sh_wI, sh_wR, rF_wI, iF_wR, ms30 h, ms31 h, ms32 h, ms33 h, ms34 h, ms35 h, ms36 h, ms37 h, ms38 h, ms39 h, ms40 h, ms41 h, ms42 h, ms43 h, ms44 h, ms45 h, ms46 h, ms47 h, ms48 h, ms49 h, ms50 h, mr0 h, mr1 h, mr2 h, mr3 h, mr4 h, mr5 h, mr6 h, mr7 h, mr8 h, mr9 h, mr10 h, mr11 h, mr12 h, mr13 h, mr14 h, mr15 h, mr16 h, mr17 h, mr18 h, mr19 h, true_and, and_true, and_self, ↓reduceIte, Int.toNat_natCast, Int.natCast_nonneg, Nat.reduceLT, Nat.reduceLeDiff, Nat.reduceEqDiff, ne_eq, not_false_eq_true, Nat.reduceAdd, reduceCtorEq, Int.reduceLT, Int.reduceLE, Int.reduceToNat, e1, e2, e3, e4, e5, e6, e7, e8, x1, hx, y1, hy, z0, c1, c2, c3]
    exact ih n (i + 1) _ (by omega) (by omega) (Or.inr ⟨rfl, i, by omega, c1, by omega, by omega⟩)
theorem m_parted (h : mSh M) (hG : RG M) {x y : Nat} (hx : x < 520) (hy : y < 520) : ∃ w, f_Md_parted 30 (x : Int) (y : Int) M = some (w, M) ∧ ((w = 0 ∧ ∀ f, f < 3 → ¬ PtC M x y f) ∨ (w = 1 ∧ ∃ f, f < 3 ∧ PtC M x y f)) := by
  unfold f_Md_parted
  obtain ⟨w, h1, h2⟩ := ml_parted h hG hx hy (fun v9 M10 => if zbl v9 = true then some (v9, M10) else none) 3 zfu 0 0 (by omega) (by decide) (Or.inl ⟨rfl, fun f hf => by omega⟩)
  rw [zk_eq, ms30 h]
  rw [if_pos rfl]
  refine ⟨w, ?_, h2⟩
  refine h1.trans ?_
  rcases h2 with ⟨rfl, -⟩ | ⟨rfl, -⟩ <;> rfl
end MD3
