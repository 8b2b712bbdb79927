-- live entries and collecting in the model
def isl (M : zHp) (g : Int) (e : Nat) : Bool := !(iF M 36 e == 9) && (iF M 34 e == 0) && (iF M 38 e == g)
theorem isl_me {M : zHp} {g : Int} {e : Nat} (hd : iF M 34 e = 0 ∨ iF M 34 e = 1) : isl M g e = (!(iF M 36 e == 9) && (eD (me M e) == 0 && eG (me M e) == g)) := by
  unfold isl me eD eG
  rcases hd with hd | hd
  · simp [hd, Bool.and_assoc]
  · simp [hd]
theorem isl_iff {M : zHp} {g : Int} {e : Nat} : isl M g e = true ↔ iF M 36 e ≠ 9 ∧ iF M 34 e = 0 ∧ iF M 38 e = g := by
  unfold isl
  simp [and_assoc]
section MD17
variable {M : zHp} {N : Nat} {time sn : Int} {bt : List Bt} {seen : List Int} {pr tl : Int} {us vs : List Int} {u : Int} {un : List Un} {mem : List En} {l0 : List (List En)} {l1 l2 : List En}
theorem mB.all (hB : mB N sn mem l0 l1 l2 M) : (allE mem l0 l1 l2).Perm (ent M N (fun e => !(iF M 36 e == 9))) := by
  have hl0 := hB.l0
  obtain ⟨b1, b2, b3, b4, b5, b6, b7, b8, b9, b10, b11, b12, b13, b14, b15⟩ := hB
  have h1 : (ent M N (fun e => !(iF M 36 e == 9))) = ent M N (fun e => iF M 36 e == -1 || (iF M 36 e == 0 || (iF M 36 e == 1 || iF M 36 e == 2))) := by
    refine ent_cg (fun e he => ?_) (fun _ _ _ => rfl)
    rcases (b5 e he).2.2.2.2.2 with q | ⟨-, q | q | q | q⟩ <;> rw [q] <;> rfl
  have dis : ∀ (p q : Int), p ≠ q → ∀ e : Nat, ¬ ((iF M 36 e == p) = true ∧ (iF M 36 e == q) = true) := fun p q hpq e hh => by
    have h1 : iF M 36 e = p := by simpa using hh.1
    have h2 : iF M 36 e = q := by simpa using hh.2
    exact hpq (h1.symm.trans h2)
  have h2 := ent_or (M := M) (N := N) (p := fun e => iF M 36 e == -1) (q := fun e => iF M 36 e == 0 || (iF M 36 e == 1 || iF M 36 e == 2)) (fun e _ q => by
    have h1 : iF M 36 e = -1 := by simpa using q.1
    have h2 := q.2
    rw [h1] at h2
    cases h2)
  have h3 := ent_or (M := M) (N := N) (p := fun e => iF M 36 e == 0) (q := fun e => iF M 36 e == 1 || iF M 36 e == 2) (fun e _ q => by
    have h1 : iF M 36 e = 0 := by simpa using q.1
    have h2 := q.2
    rw [h1] at h2
    cases h2)
  have h4 := ent_or (M := M) (N := N) (p := fun e => iF M 36 e == 1) (q := fun e => iF M 36 e == 2) (fun e _ => dis 1 2 (by decide) e)
  rw [h1]
  unfold allE
  exact (b7.append (hl0.append ((b8.append b9).trans h4.symm) |>.trans h3.symm)).trans h2.symm
theorem mB.live (hB : mB N sn mem l0 l1 l2 M) (g : Int) : (live g (allE mem l0 l1 l2)).Perm (ent M N (isl M g)) := by
  have h1 := hB.all.filter (fun e => eD e == 0 && eG e == g)
  rw [ent_filter] at h1
  refine h1.trans (List.Perm.of_eq ?_)
  exact ent_cg (fun e he => (isl_me (hB.2.2.2.2.1 e he).1).symm) (fun _ _ _ => rfl)
theorem m_isLive (h : mSh M) (hG : RG M) {e : Nat} (he : e < 520) {g : Int} (hg : rg g) : f_Md_isLive 30 (e : Int) g M = some (if isl M g e = true then 1 else 0, M) := by
  unfold f_Md_isLive
  have a1 : (e : Int) < 4096 := by omega
  have e1 := zeq_iff (hG 36 e) rg9
  have e2 := zeq_iff (hG 34 e) rg0
  have e3 := zeq_iff (hG 38 e) hg
  have hi := isl_iff (M := M) (g := g) (e := e)
  by_cases c1 : iF M 36 e = 9
  · rw [if_neg (show ¬ isl M g e = true from fun q => (hi.mp q).1 c1)]
    simp only [↓gI_b, ↓gR_b, ↓pI_b, ↓pZ_b, ↓pR_b, ↓ldI_b, ↓ldR_b, ↓stI_b, ↓stZ_b, ↓stR_b, zk_eq, sh_wI, sh_wR, rF_wI, iF_wR, ms30 h, ms31 h, ms32 h, ms33 h, ms34 h, ms35 h, ms36 h, ms37 h, ms38 h, ms39 h, ms40 h, ms41 h, ms42 h, ms43 h, ms44 h, ms45 h, ms46 h, ms47 h, ms48 h, ms49 h, ms50 h, mr0 h, mr1 h, mr2 h, mr3 h, mr4 h, mr5 h, mr6 h, mr7 h, mr8 h, mr9 h, mr10 h, mr11 h, mr12 h, mr13 h, mr14 h, mr15 h, mr16 h, mr17 h, mr18 h, mr19 h, true_and, and_true, and_self, ↓reduceIte, Int.toNat_natCast, Int.natCast_nonneg, Nat.reduceLT, Nat.reduceLeDiff, Nat.reduceEqDiff, ne_eq, not_false_eq_true, Nat.reduceAdd, reduceCtorEq, Int.reduceLT, Int.reduceLE, Int.reduceToNat, he, a1, e1, eq_true c1]
  by_cases c2 : iF M 34 e = 0
  · by_cases c3 : iF M 38 e = g
    · rw [if_pos (hi.mpr ⟨c1, c2, c3⟩)]
      simp only [↓gI_b, ↓gR_b, ↓pI_b, ↓pZ_b, ↓pR_b, ↓ldI_b, ↓ldR_b, ↓stI_b, ↓stZ_b, ↓stR_b, zk_eq, sh_wI, sh_wR, rF_wI, iF_wR, ms30 h, ms31 h, ms32 h, ms33 h, ms34 h, ms35 h, ms36 h, ms37 h, ms38 h, ms39 h, ms40 h, ms41 h, ms42 h, ms43 h, ms44 h, ms45 h, ms46 h, ms47 h, ms48 h, ms49 h, ms50 h, mr0 h, mr1 h, mr2 h, mr3 h, mr4 h, mr5 h, mr6 h, mr7 h, mr8 h, mr9 h, mr10 h, mr11 h, mr12 h, mr13 h, mr14 h, mr15 h, mr16 h, mr17 h, mr18 h, mr19 h, true_and, and_true, and_self, ↓reduceIte, Int.toNat_natCast, Int.natCast_nonneg, Nat.reduceLT, Nat.reduceLeDiff, Nat.reduceEqDiff, ne_eq, not_false_eq_true, Nat.reduceAdd, reduceCtorEq, Int.reduceLT, Int.reduceLE, Int.reduceToNat, he, a1, e1, e2, e3, c1, eq_true c2, eq_true c3]
    · rw [if_neg (show ¬ isl M g e = true from fun q => c3 (hi.mp q).2.2)]
      simp only [↓gI_b, ↓gR_b, ↓pI_b, ↓pZ_b, ↓pR_b, ↓ldI_b, ↓ldR_b, ↓stI_b, ↓stZ_b, ↓stR_b, zk_eq, sh_wI, sh_wR, rF_wI, iF_wR, ms30 h, ms31 h, ms32 h, ms33 h, ms34 h, ms35 h, ms36 h, ms37 h, ms38 h, ms39 h, ms40 h, ms41 h, ms42 h, ms43 h, ms44 h, ms45 h, ms46 h, ms47 h, ms48 h, ms49 h, ms50 h, mr0 h, mr1 h, mr2 h, mr3 h, mr4 h, mr5 h, mr6 h, mr7 h, mr8 h, mr9 h, mr10 h, mr11 h, mr12 h, mr13 h, mr14 h, mr15 h, mr16 h, mr17 h, mr18 h, mr19 h, true_and, and_true, and_self, ↓reduceIte, Int.toNat_natCast, Int.natCast_nonneg, Nat.reduceLT, Nat.reduceLeDiff, Nat.reduceEqDiff, ne_eq, not_false_eq_true, Nat.reduceAdd, reduceCtorEq, Int.reduceLT, Int.reduceLE, Int.reduceToNat, he, a1, e1, e2, e3, c1, eq_true c2, c3]
  · rw [if_neg (show ¬ isl M g e = true from fun q => c2 (hi.mp q).2.1)]
    simp only [↓gI_b, ↓gR_b, ↓pI_b, ↓pZ_b, ↓pR_b, ↓ldI_b, ↓ldR_b, ↓stI_b, ↓stZ_b, ↓stR_b, zk_eq, sh_wI, sh_wR, rF_wI, iF_wR, ms30 h, ms31 h, ms32 h, ms33 h, ms34 h, ms35 h, ms36 h, ms37 h, ms38 h, ms39 h, ms40 h, ms41 h, ms42 h, ms43 h, ms44 h, ms45 h, ms46 h, ms47 h, ms48 h, ms49 h, ms50 h, mr0 h, mr1 h, mr2 h, mr3 h, mr4 h, mr5 h, mr6 h, mr7 h, mr8 h, mr9 h, mr10 h, mr11 h, mr12 h, mr13 h, mr14 h, mr15 h, mr16 h, mr17 h, mr18 h, mr19 h, true_and, and_true, and_self, ↓reduceIte, Int.toNat_natCast, Int.natCast_nonneg, Nat.reduceLT, Nat.reduceLeDiff, Nat.reduceEqDiff, ne_eq, not_false_eq_true, Nat.reduceAdd, reduceCtorEq, Int.reduceLT, Int.reduceLE, Int.reduceToNat, he, a1, e1, e2, e3, c1, c2]
set_option maxRecDepth 10000 in
theorem ml_live (h : mSh M) (hG : RG M) (hN : iF M 30 1 = (N : Int)) (hN2 : N ≤ 520) (g : Int) (hg : rg g) (κ : Int → zHp → Option (Int × zHp)) : ∀ (d n i : Nat) (v : Int), i + d = N → d < n → (v = ((cnt (isl M g) i : Nat) : Int)) → ∃ w, f_Md_liveIn_L4 κ 30 g n v (i : Int) M = κ w M ∧ (w = ((cnt (isl M g) N : Nat) : Int)) := by
  intro d
  induction d with
  | zero =>
    intro n i v hi hn hv
    obtain ⟨n, rfl⟩ : ∃ k, n = k + 1 := ⟨n - 1, by omega⟩
    unfold f_Md_liveIn_L4
    have e1 : zle (N : Int) (i : Int) := (zle_iff (rgN (by omega)) (rgN (by omega))).mpr (by omega)
    have hiN : i = N := by omega
    subst hiN
    refine ⟨v, ?_, hv⟩
    simp only [↓gI_b, ↓gR_b, ↓pI_b, ↓pZ_b, ↓pR_b, ↓ldI_b, ↓ldR_b, ↓stI_b, ↓stZ_b, ↓stR_b, zk_eq, sh_wI, sh_wR, rF_wI, iF_wR, ms30 h, ms31 h, ms32 h, ms33 h, ms34 h, ms35 h, ms36 h, ms37 h, ms38 h, ms39 h, ms40 h, ms41 h, ms42 h, ms43 h, ms44 h, ms45 h, ms46 h, ms47 h, ms48 h, ms49 h, ms50 h, mr0 h, mr1 h, mr2 h, mr3 h, mr4 h, mr5 h, mr6 h, mr7 h, mr8 h, mr9 h, mr10 h, mr11 h, mr12 h, mr13 h, mr14 h, mr15 h, mr16 h, mr17 h, mr18 h, mr19 h, true_and, and_true, and_self, ↓reduceIte, Int.toNat_natCast, Int.natCast_nonneg, Nat.reduceLT, Nat.reduceLeDiff, Nat.reduceEqDiff, ne_eq, not_false_eq_true, Nat.reduceAdd, reduceCtorEq, Int.reduceLT, Int.reduceLE, Int.reduceToNat, hN, e1]
  | succ d ih =>
    intro n i v hi hn hv
    obtain ⟨n, rfl⟩ : ∃ k, n = k + 1 := ⟨n - 1, by omega⟩
    unfold f_Md_liveIn_L4
    have e1 : ¬ zle (N : Int) (i : Int) := fun q => by have := (zle_iff (rgN (by omega)) (rgN (by omega))).mp q; omega
    have e2 : (i : Int) < 4096 := by omega
    have e3 : i < 520 := by omega
    have e5 := zaddN (i := i) (by omega)
    have hb := m_isLive h hG e3 hg
    have z0 : zeq 0 0 := rfl
    have z1 : ¬ zeq 1 0 := by decide
    by_cases c : isl M g i = true
    · rw [if_pos c] at hb
      simp only [↓gI_b, ↓gR_b, ↓pI_b, ↓pZ_b, ↓pR_b, ↓ldI_b, ↓ldR_b, ↓stI_b, ↓stZ_b, ↓stR_b, zk_eq, sh_wI, sh_wR, rF_wI, iF_wR, ms30 h, ms31 h, ms32 h, ms33 h, ms34 h, ms35 h, ms36 h, ms37 h, ms38 h, ms39 h, ms40 h, ms41 h, ms42 h, ms43 h, ms44 h, ms45 h, ms46 h, ms47 h, ms48 h, ms49 h, ms50 h, mr0 h, mr1 h, mr2 h, mr3 h, mr4 h, mr5 h, mr6 h, mr7 h, mr8 h, mr9 h, mr10 h, mr11 h, mr12 h, mr13 h, mr14 h, mr15 h, mr16 h, mr17 h, mr18 h, mr19 h, true_and, and_true, and_self, ↓reduceIte, Int.toNat_natCast, Int.natCast_nonneg, Nat.reduceLT, Nat.reduceLeDiff, Nat.reduceEqDiff, ne_eq, not_false_eq_true, Nat.reduceAdd, reduceCtorEq, Int.reduceLT, Int.reduceLE, Int.reduceToNat, hN, e1, e2, e3, e5, ↓zb2_of hb, z1]
      exact ih n (i + 1) _ (by omega) (by omega) (by rw [hv]; exact cnt_st c (by omega))
    · rw [if_neg c] at hb
      simp only [↓gI_b, ↓gR_b, ↓pI_b, ↓pZ_b, ↓pR_b, ↓ldI_b, ↓ldR_b, ↓stI_b, ↓stZ_b, ↓stR_b, zk_eq, sh_wI, sh_wR, rF_wI, iF_wR, ms30 h, ms31 h, ms32 h, ms33 h, ms34 h, ms35 h, ms36 h, ms37 h, ms38 h, ms39 h, ms40 h, ms41 h, ms42 h, ms43 h, ms44 h, ms45 h, ms46 h, ms47 h, ms48 h, ms49 h, ms50 h, mr0 h, mr1 h, mr2 h, mr3 h, mr4 h, mr5 h, mr6 h, mr7 h, mr8 h, mr9 h, mr10 h, mr11 h, mr12 h, mr13 h, mr14 h, mr15 h, mr16 h, mr17 h, mr18 h, mr19 h, true_and, and_true, and_self, ↓reduceIte, Int.toNat_natCast, Int.natCast_nonneg, Nat.reduceLT, Nat.reduceLeDiff, Nat.reduceEqDiff, ne_eq, not_false_eq_true, Nat.reduceAdd, reduceCtorEq, Int.reduceLT, Int.reduceLE, Int.reduceToNat, hN, e1, e2, e3, e5, ↓zb2_of hb, z0]
      exact ih n (i + 1) _ (by omega) (by omega) (by rw [hv]; exact cnt_sn c)
theorem m_liveIn (hA : mA time sn bt seen pr tl us un M) (hB : mB N sn mem l0 l1 l2 M) {g : Int} (hg : rg g) : f_Md_liveIn 30 g M = some (((live g (allE mem l0 l1 l2)).length : Int), M) := by
  have h := hA.1
  unfold f_Md_liveIn
  obtain ⟨w, h1, h2⟩ := ml_live h hA.2.1 hB.1 hB.2.1 g hg (fun v9 M10 => some (v9, M10)) N zfu 0 0 (by omega) (zfu_gt hB.2.1) rfl
  rw [zk_eq, ms30 h]
  rw [if_pos rfl]
  rw [(hB.live g).length_eq, ent_len, ← h2]
  exact h1
set_option maxRecDepth 10000 in
theorem ml_nextLive (h : mSh M) (hG : RG M) (hN : iF M 30 1 = (N : Int)) (hN2 : N ≤ 520) {g : Int} (hT : iF M 30 6 = g) (hg : rg g) (κ : Int → zHp → Option (Int × zHp)) : ∀ (d n i : Nat) (v : Int), i + d = N → d < n → ((v = -1 ∧ ∀ f, f < i → ¬ isl M g f = true) ∨ ∃ b, b < i ∧ v = (b : Int) ∧ isl M g b = true ∧ ∀ f, f < i → isl M g f = true → iF M 39 b ≤ iF M 39 f) → ∃ w, f_Md_nextLive_L4 κ 30  n v (i : Int) M = κ w M ∧ ((w = -1 ∧ ∀ f, f < N → ¬ isl M g f = true) ∨ ∃ b, b < N ∧ w = (b : Int) ∧ isl M g b = true ∧ ∀ f, f < N → isl M g f = true → iF M 39 b ≤ iF M 39 f) := by
  intro d
  induction d with
  | zero =>
    intro n i v hi hn hv
    obtain ⟨n, rfl⟩ : ∃ k, n = k + 1 := ⟨n - 1, by omega⟩
    unfold f_Md_nextLive_L4
    have e1 : zle (N : Int) (i : Int) := (zle_iff (rgN (by omega)) (rgN (by omega))).mpr (by omega)
    have hiN : i = N := by omega
    subst hiN
    refine ⟨v, ?_, hv⟩
    simp only [↓gI_b, ↓gR_b, ↓pI_b, ↓pZ_b, ↓pR_b, ↓ldI_b, ↓ldR_b, ↓stI_b, ↓stZ_b, ↓stR_b, zk_eq, sh_wI, sh_wR, rF_wI, iF_wR, ms30 h, ms31 h, ms32 h, ms33 h, ms34 h, ms35 h, ms36 h, ms37 h, ms38 h, ms39 h, ms40 h, ms41 h, ms42 h, ms43 h, ms44 h, ms45 h, ms46 h, ms47 h, ms48 h, ms49 h, ms50 h, mr0 h, mr1 h, mr2 h, mr3 h, mr4 h, mr5 h, mr6 h, mr7 h, mr8 h, mr9 h, mr10 h, mr11 h, mr12 h, mr13 h, mr14 h, mr15 h, mr16 h, mr17 h, mr18 h, mr19 h, true_and, and_true, and_self, ↓reduceIte, Int.toNat_natCast, Int.natCast_nonneg, Nat.reduceLT, Nat.reduceLeDiff, Nat.reduceEqDiff, ne_eq, not_false_eq_true, Nat.reduceAdd, reduceCtorEq, Int.reduceLT, Int.reduceLE, Int.reduceToNat, hN, e1]
  | succ d ih =>
    intro n i v hi hn hv
    obtain ⟨n, rfl⟩ : ∃ k, n = k + 1 := ⟨n - 1, by omega⟩
    unfold f_Md_nextLive_L4
    have e1 : ¬ zle (N : Int) (i : Int) := fun q => by have := (zle_iff (rgN (by omega)) (rgN (by omega))).mp q; omega
    have e2 : (i : Int) < 4096 := by omega
    have e3 : i < 520 := by omega
    have e5 := zaddN (i := i) (by omega)
    have hb := m_isLive h hG e3 hg
    have z0 : zeq 0 0 := rfl
    have z1 : ¬ zeq 1 0 := by decide
    by_cases c : ¬ isl M g i = true
    · rw [if_neg c] at hb
      simp only [↓gI_b, ↓gR_b, ↓pI_b, ↓pZ_b, ↓pR_b, ↓ldI_b, ↓ldR_b, ↓stI_b, ↓stZ_b, ↓stR_b, zk_eq, sh_wI, sh_wR, rF_wI, iF_wR, ms30 h, ms31 h, ms32 h, ms33 h, ms34 h, ms35 h, ms36 h, ms37 h, ms38 h, ms39 h, ms40 h, ms41 h, ms42 h, ms43 h, ms44 h, ms45 h, ms46 h, ms47 h, ms48 h, ms49 h, ms50 h, mr0 h, mr1 h, mr2 h, mr3 h, mr4 h, mr5 h, mr6 h, mr7 h, mr8 h, mr9 h, mr10 h, mr11 h, mr12 h, mr13 h, mr14 h, mr15 h, mr16 h, mr17 h, mr18 h, mr19 h, true_and, and_true, and_self, ↓reduceIte, Int.toNat_natCast, Int.natCast_nonneg, Nat.reduceLT, Nat.reduceLeDiff, Nat.reduceEqDiff, ne_eq, not_false_eq_true, Nat.reduceAdd, reduceCtorEq, Int.reduceLT, Int.reduceLE, Int.reduceToNat, hN, hT, e1, e2, e3, e5, ↓zb2_of hb, z0]
      refine ih n (i + 1) v (by omega) (by omega) ?_
      rcases hv with ⟨hv, hf⟩ | ⟨b, hbl, hv, hB, hm⟩
      · exact Or.inl ⟨hv, allS hf c⟩
      · exact Or.inr ⟨b, by omega, hv, hB, allS (P := fun f => isl M g f = true → iF M 39 b ≤ iF M 39 f) hm (fun q => absurd q c)⟩
    have c := Decidable.not_not.mp c
    rw [if_pos c] at hb
    rcases hv with ⟨rfl, hf⟩ | ⟨b, hbl, rfl, hB, hm⟩
    · have e9 : zlt (-1) 0 := by decide
      simp only [↓gI_b, ↓gR_b, ↓pI_b, ↓pZ_b, ↓pR_b, ↓ldI_b, ↓ldR_b, ↓stI_b, ↓stZ_b, ↓stR_b, zk_eq, sh_wI, sh_wR, rF_wI, iF_wR, ms30 h, ms31 h, ms32 h, ms33 h, ms34 h, ms35 h, ms36 h, ms37 h, ms38 h, ms39 h, ms40 h, ms41 h, ms42 h, ms43 h, ms44 h, ms45 h, ms46 h, ms47 h, ms48 h, ms49 h, ms50 h, mr0 h, mr1 h, mr2 h, mr3 h, mr4 h, mr5 h, mr6 h, mr7 h, mr8 h, mr9 h, mr10 h, mr11 h, mr12 h, mr13 h, mr14 h, mr15 h, mr16 h, mr17 h, mr18 h, mr19 h, true_and, and_true, and_self, ↓reduceIte, Int.toNat_natCast, Int.natCast_nonneg, Nat.reduceLT, Nat.reduceLeDiff, Nat.reduceEqDiff, ne_eq, not_false_eq_true, Nat.reduceAdd, reduceCtorEq, Int.reduceLT, Int.reduceLE, Int.reduceToNat, hN, hT, e1, e2, e3, e5, ↓zb2_of hb, z1, e9]
      exact ih n (i + 1) _ (by omega) (by omega) (Or.inr ⟨i, by omega, rfl, c, allS (P := fun f => isl M g f = true → iF M 39 i ≤ iF M 39 f) (fun f hf2 q => absurd q (hf f hf2)) (fun _ => Int.le_refl _)⟩)
    · have e9 : ¬ zlt (b : Int) 0 := fun q => by have := (zlt_iff (rgN (by omega)) rg0).mp q; omega
      have b1 : (b : Int) < 4096 := by omega
      have b2 : b < 520 := by omega
      have e10 := zle_iff (hG 39 b) (hG 39 i)
      by_cases c4 : iF M 39 b ≤ iF M 39 i
      · simp only [↓gI_b, ↓gR_b, ↓pI_b, ↓pZ_b, ↓pR_b, ↓ldI_b, ↓ldR_b, ↓stI_b, ↓stZ_b, ↓stR_b, zk_eq, sh_wI, sh_wR, rF_wI, iF_wR, ms30 h, ms31 h, ms32 h, ms33 h, ms34 h, ms35 h, ms36 h, ms37 h, ms38 h, ms39 h, ms40 h, ms41 h, ms42 h, ms43 h, ms44 h, ms45 h, ms46 h, ms47 h, ms48 h, ms49 h, ms50 h, mr0 h, mr1 h, mr2 h, mr3 h, mr4 h, mr5 h, mr6 h, mr7 h, mr8 h, mr9 h, mr10 h, mr11 h, mr12 h, mr13 h, mr14 h, mr15 h, mr16 h, mr17 h, mr18 h, mr19 h, true_and, and_true, and_self, ↓reduceIte, Int.toNat_natCast, Int.natCast_nonneg, Nat.reduceLT, Nat.reduceLeDiff, Nat.reduceEqDiff, ne_eq, not_false_eq_true, Nat.reduceAdd, reduceCtorEq, Int.reduceLT, Int.reduceLE, Int.reduceToNat, hN, hT, e1, e2, e3, e5, ↓zb2_of hb, z1, e9, b1, b2, e10, c4]
        exact ih n (i + 1) _ (by omega) (by omega) (Or.inr ⟨b, by omega, rfl, hB, allS (P := fun f => isl M g f = true → iF M 39 b ≤ iF M 39 f) hm (fun _ => c4)⟩)
      · simp only [↓gI_b, ↓gR_b, ↓pI_b, ↓pZ_b, ↓pR_b, ↓ldI_b, ↓ldR_b, ↓stI_b, ↓stZ_b, ↓stR_b, zk_eq, sh_wI, sh_wR, rF_wI, iF_wR, ms30 h, ms31 h, ms32 h, ms33 h, ms34 h, ms35 h, ms36 h, ms37 h, ms38 h, ms39 h, ms40 h, ms41 h, ms42 h, ms43 h, ms44 h, ms45 h, ms46 h, ms47 h, ms48 h, ms49 h, ms50 h, mr0 h, mr1 h, mr2 h, mr3 h, mr4 h, mr5 h, mr6 h, mr7 h, mr8 h, mr9 h, mr10 h, mr11 h, mr12 h, mr13 h, mr14 h, mr15 h, mr16 h, mr17 h, mr18 h, mr19 h, true_and, and_true, and_self, ↓reduceIte, Int.toNat_natCast, Int.natCast_nonneg, Nat.reduceLT, Nat.reduceLeDiff, Nat.reduceEqDiff, ne_eq, not_false_eq_true, Nat.reduceAdd, reduceCtorEq, Int.reduceLT, Int.reduceLE, Int.reduceToNat, hN, hT, e1, e2, e3, e5, ↓zb2_of hb, z1, e9, b1, b2, e10, c4]
        exact ih n (i + 1) _ (by omega) (by omega) (Or.inr ⟨i, by omega, rfl, c, allS (P := fun f => isl M g f = true → iF M 39 i ≤ iF M 39 f) (fun f hf2 q => by have := hm f hf2 q; omega) (fun _ => Int.le_refl _)⟩)
theorem m_nextLive (h : mSh M) (hG : RG M) (hN : iF M 30 1 = (N : Int)) (hN2 : N ≤ 520) {g : Int} (hT : iF M 30 6 = g) (hg : rg g) : ∃ w, f_Md_nextLive 30 M = some (w, M) ∧ ((w = -1 ∧ ∀ f, f < N → ¬ isl M g f = true) ∨ ∃ b, b < N ∧ w = (b : Int) ∧ isl M g b = true ∧ ∀ f, f < N → isl M g f = true → iF M 39 b ≤ iF M 39 f) := by
  unfold f_Md_nextLive
  obtain ⟨w, h1, h2⟩ := ml_nextLive h hG hN hN2 hT hg (fun v9 M10 => some (v9, M10)) N zfu 0 (-1) (by omega) (zfu_gt hN2) (Or.inl ⟨rfl, fun f hf => by omega⟩)
  rw [zk_eq, ms30 h]
  rw [if_pos rfl]
  exact ⟨w, h1, h2⟩
theorem ml_heads (M : zHp) (κ : Int → zHp → Option (Int × zHp)) : ∀ (f n : Nat) (v fill left : Int), 0 ≤ v → v + f ≤ 1000 → 0 ≤ fill → fill ≤ 100 → left ≤ 6 * f → left ≤ 600 → -600 ≤ left → f < n → f_Md_headsFor_L18 κ n v fill left M = κ (v + hdsN f fill left) M := by
  intro f
  induction f with
  | zero =>
    intro n v fill left h0 h0' h1 h2 h3 h4 h5 hn
    obtain ⟨n, rfl⟩ : ∃ k, n = k + 1 := ⟨n - 1, by omega⟩
    unfold f_Md_headsFor_L18 hdsN
    have e1 : zle left 0 := (zle_iff (by unfold rg; omega) rg0).mpr (by omega)
    simp only [e1, if_true, Int.add_zero]
  | succ f ih =>
    intro n v fill left h0 h0' h1 h2 h3 h4 h5 hn
    obtain ⟨n, rfl⟩ : ∃ k, n = k + 1 := ⟨n - 1, by omega⟩
    unfold f_Md_headsFor_L18 hdsN
    have e1 := zle_iff (x := left) (y := 0) (by unfold rg; omega) rg0
    by_cases c : left ≤ 0
    · have e1' : zle left 0 := e1.mpr c
      simp only [e1', if_true, c, Int.add_zero]
    have e1' : ¬ zle left 0 := fun q => c (e1.mp q)
    have e2 := zle_iff (x := 6) (y := left) (by unfold rg; omega) (by unfold rg; omega)
    have e3 : zadd 1 6 = 7 := by decide
    have e4 : zadd v 1 = v + 1 := zadd_eq (by omega) (by omega)
    have e5 : zsub left 6 = left - 6 := zsub_eq (by omega) (by omega)
    by_cases c6 : 6 ≤ left
    · have e2' : zle 6 left := e2.mpr c6
      have n6 : ¬ left < 6 := by omega
      have e6 : zadd fill 7 = fill + 7 := zadd_eq (by omega) (by omega)
      have e7 := zle_iff (x := fill + 7) (y := 16) (by unfold rg; omega) (by unfold rg; omega)
      have e8 : zadd 0 7 = 7 := by decide
      by_cases cf : fill + 7 ≤ 16
      · have e7' : zle (fill + 7) 16 := e7.mpr cf
        have n7 : ¬ 16 < fill + (1 + 6) := by omega
        simp only [e1', e2', e3, e6, e7', if_true, if_false, c, n6, n7, e5]
        rw [ih n v (fill + 7) (left - 6) (by omega) (by omega) (by omega) (by omega) (by omega) (by omega) (by omega) (by omega)]
        congr 3
      · have e7' : ¬ zle (fill + 7) 16 := fun q => cf (e7.mp q)
        have n7 : 16 < fill + (1 + 6) := by omega
        simp only [e1', e2', e3, e6, e7', if_true, if_false, c, n6, n7, e5, e4, e8]
        rw [ih n (v + 1) 7 (left - 6) (by omega) (by omega) (by omega) (by omega) (by omega) (by omega) (by omega) (by omega)]
        congr 1
        rw [show (1 : Int) + 6 = 7 by decide]
        omega
    · have e2' : ¬ zle 6 left := fun q => c6 (e2.mp q)
      have n6 : left < 6 := by omega
      have e3' : zadd 1 left = 1 + left := zadd_eq (by omega) (by omega)
      have e6 : zadd fill (1 + left) = fill + (1 + left) := zadd_eq (by omega) (by omega)
      have e7 := zle_iff (x := fill + (1 + left)) (y := 16) (by unfold rg; omega) (by unfold rg; omega)
      have e8 : zadd 0 (1 + left) = 1 + left := by rw [zadd_eq (by omega) (by omega)]; omega
      by_cases cf : fill + (1 + left) ≤ 16
      · have e7' : zle (fill + (1 + left)) 16 := e7.mpr cf
        have n7 : ¬ 16 < fill + (1 + left) := by omega
        simp only [e1', e2', e3', e6, e7', if_true, if_false, c, n6, n7, e5]
        rw [ih n v (fill + (1 + left)) (left - 6) (by omega) (by omega) (by omega) (by omega) (by omega) (by omega) (by omega) (by omega)]
      · have e7' : ¬ zle (fill + (1 + left)) 16 := fun q => cf (e7.mp q)
        have n7 : 16 < fill + (1 + left) := by omega
        simp only [e1', e2', e3', e6, e7', if_true, if_false, c, n6, n7, e5, e4, e8]
        rw [ih n (v + 1) (1 + left) (left - 6) (by omega) (by omega) (by omega) (by omega) (by omega) (by omega) (by omega) (by omega)]
        congr 1
        omega
theorem m_headsFor (hA : mA time sn bt seen pr tl (vs ++ [u]) un M) (htl : 0 ≤ tl ∧ tl + vs.length ≤ 100000) (hu : 0 ≤ u ∧ u ≤ 16) {n : Int} (hn : 0 ≤ n ∧ n ≤ 100) : f_Md_headsFor 30 n M = some (hds u n, M) := by
  obtain ⟨h, hG, a1, a2, a3, a4, a5, a6, a7⟩ := mA_iff.mp hA
  obtain ⟨u7, u47⟩ := a6.last
  have e1 : zrem (tl + vs.length) 8 = (tl + vs.length) % 8 := zrem_eq (by unfold rg; omega) (by unfold rg; omega) (by omega) (by omega)
  have e2 : 0 ≤ (tl + vs.length) % 8 := by omega
  have e3 : (tl + vs.length) % 8 < 4096 := by omega
  have e4 : ((tl + vs.length) % 8).toNat < 8 := by omega
  have hk := ml_heads M (fun v11 M12 => some (v11, M12)) 20 zfu 0 u n (by omega) (by omega) (by omega) (by omega) (by omega) (by omega) (by omega) (by decide)
  unfold f_Md_headsFor hds
  simp only [↓gI_b, ↓gR_b, ↓pI_b, ↓pZ_b, ↓pR_b, ↓ldI_b, ↓ldR_b, ↓stI_b, ↓stZ_b, ↓stR_b, zk_eq, sh_wI, sh_wR, rF_wI, iF_wR, ms30 h, ms31 h, ms32 h, ms33 h, ms34 h, ms35 h, ms36 h, ms37 h, ms38 h, ms39 h, ms40 h, ms41 h, ms42 h, ms43 h, ms44 h, ms45 h, ms46 h, ms47 h, ms48 h, ms49 h, ms50 h, mr0 h, mr1 h, mr2 h, mr3 h, mr4 h, mr5 h, mr6 h, mr7 h, mr8 h, mr9 h, mr10 h, mr11 h, mr12 h, mr13 h, mr14 h, mr15 h, mr16 h, mr17 h, mr18 h, mr19 h, true_and, and_true, and_self, ↓reduceIte, Int.toNat_natCast, Int.natCast_nonneg, Nat.reduceLT, Nat.reduceLeDiff, Nat.reduceEqDiff, ne_eq, not_false_eq_true, Nat.reduceAdd, reduceCtorEq, Int.reduceLT, Int.reduceLE, Int.reduceToNat, u7, e1, e2, e3, e4, u47]
  rw [hk, Int.zero_add]
end MD17
