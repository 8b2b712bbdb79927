section MD10
variable {M : zHp} {N : Nat} {time sn : Int} {bt : List Bt} {seen : List Int} {pr tl : Int} {us : List Int} {un : List Un} {mem : List En} {l0 : List (List En)} {l1 l2 : List En}
theorem ent_le {p : Nat → Bool} : (ent M N p).length ≤ N := by rw [ent_len]; exact cnt_le _ _
theorem sift_le {low : Bool} {L : List En} : (sift low time seen L).length ≤ L.length := List.length_filter_le _ _
theorem m_mnext (hA : mA time sn bt seen pr tl us un M) (hC : mC N sn mem l0 l1 l2 M) : ∃ Q, f_Md_mergeNext 30 M = some (((l1.length + l2.length : Nat) : Int) - ((mg1 time seen l1 l2).length : Int), Q) ∧ mFr M Q ∧ mA time sn bt seen pr tl us un Q ∧ mC N sn mem l0 [] (mg1 time seen l1 l2) Q := by
  obtain ⟨P, Q, n, hP, hQ, h1, h2, h3, h4⟩ := m_next hA hC
  refine ⟨Q, ?_, h1, h2, h3⟩
  unfold f_Md_mergeNext
  have h := hA.1
  simp only [↓gI_b, ↓gR_b, ↓pI_b, ↓pZ_b, ↓pR_b, ↓ldI_b, ↓ldR_b, ↓stI_b, ↓stZ_b, ↓stR_b, zk_eq, sh_wI, sh_wR, rF_wI, iF_wR, ms30 h, ms31 h, ms32 h, ms33 h, ms34 h, ms35 h, ms36 h, ms37 h, ms38 h, ms39 h, ms40 h, ms41 h, ms42 h, ms43 h, ms44 h, ms45 h, ms46 h, ms47 h, ms48 h, ms49 h, ms50 h, mr0 h, mr1 h, mr2 h, mr3 h, mr4 h, mr5 h, mr6 h, mr7 h, mr8 h, mr9 h, mr10 h, mr11 h, mr12 h, mr13 h, mr14 h, mr15 h, mr16 h, mr17 h, mr18 h, mr19 h, true_and, and_true, and_self, ↓reduceIte, Int.toNat_natCast, Int.natCast_nonneg, Nat.reduceLT, Nat.reduceLeDiff, Nat.reduceEqDiff, ne_eq, not_false_eq_true, Nat.reduceAdd, reduceCtorEq, Int.reduceLT, Int.reduceLE, Int.reduceToNat, ↓bnd_of hP, ↓zb2_of hQ, h4]
theorem m_merge0 (hA : mA time sn bt seen pr tl us un M) (hB : mB N sn mem l0 l1 l2 M) : ∃ Q, f_Md_mergeOf 30 0 M = some ((mgd time seen l0 l1 l2).2.2, Q) ∧ mFr M Q ∧ mA time sn bt seen pr tl us un Q ∧ mB N sn mem [] (mgd time seen l0 l1 l2).1 (mgd time seen l0 l1 l2).2.1 Q := by
  obtain ⟨P, Q, n, hP, hQ, hf, hQs, hA2, hC2, hn⟩ := m_zero hA hB
  have h := hA.1
  have hN2 := hB.2.1
  have z1 : zadd 0 1 = 1 := by decide
  have z0 : zeq 0 0 := rfl
  have hsz := hC2.size hA2 rg1
  have hlen : (lvE (wI Q 30 3 0) N 1).length = (mg0 time seen l0 l1).length := hC2.2.2.2.2.2.2.2.1.length_eq.symm
  rw [hlen] at hsz
  have hl1 : (mg0 time seen l0 l1).length ≤ N := by rw [← hlen]; exact ent_le
  have hle := zle_iff (x := ((mg0 time seen l0 l1).length : Int)) (y := 12) (rgN (by omega)) (by unfold rg; omega)
  have hall : (l0.flatten ++ l1).length ≤ N := by
    have := (mg_sel (M := M) (N := N) (a := 0) (b := 1) (by decide) hB.l0 hB.C.2.2.2.2.2.2.2.1).length_eq
    rw [this]; exact ent_le
  unfold f_Md_mergeOf
  rw [z1]
  unfold mgd
  dsimp only
  by_cases c : 12 < (mg0 time seen l0 l1).length
  · rw [if_pos c]
    have c' : ¬ zle ((mg0 time seen l0 l1).length : Int) 12 := fun q => by have := hle.mp q; omega
    obtain ⟨Q2, hQ2, hf2, hA3, hC3⟩ := m_mnext hA2 hC2
    obtain ⟨Q3, hQ3, hf3, hA4, hB4⟩ := m_arr hA3 hC3
    refine ⟨Q3, ?_, (hf.tr hf2).tr hf3, hA4, hB4⟩
    have hl2 : (mg1 time seen (mg0 time seen l0 l1) l2).length ≤ N := by
      have := hC3.2.2.2.2.2.2.2.2.1.length_eq
      rw [this]; exact ent_le
    have hl3 : l2.length ≤ N := by
      have := hC2.2.2.2.2.2.2.2.2.1.length_eq
      rw [this]; exact ent_le
    have hadd : zadd n (((mg0 time seen l0 l1).length + l2.length : Nat) - ((mg1 time seen (mg0 time seen l0 l1) l2).length : Int)) = n + ((((mg0 time seen l0 l1).length + l2.length : Nat) : Int) - ((mg1 time seen (mg0 time seen l0 l1) l2).length : Int)) := zadd_eq (by rw [hn]; omega) (by rw [hn]; omega)
    simp only [↓gI_b, ↓gR_b, ↓pI_b, ↓pZ_b, ↓pR_b, ↓ldI_b, ↓ldR_b, ↓stI_b, ↓stZ_b, ↓stR_b, zk_eq, sh_wI, sh_wR, rF_wI, iF_wR, ms30 h, ms30 hQs, true_and, and_true, and_self, ↓reduceIte, Int.toNat_natCast, Int.natCast_nonneg, Nat.reduceLT, Nat.reduceLeDiff, Nat.reduceEqDiff, ne_eq, not_false_eq_true, Nat.reduceAdd, reduceCtorEq, Int.reduceLT, Int.reduceLE, Int.reduceToNat, z0, ↓bnd_of hP, ↓zb2_of hQ, ↓zb2_of hsz, c', ↓zb2_of hQ2, ↓bnd_of hQ3]
    rw [hadd, hn]
    rfl
  · rw [if_neg c]
    have c' : zle ((mg0 time seen l0 l1).length : Int) 12 := hle.mpr (by omega)
    obtain ⟨Q3, hQ3, hf3, hA4, hB4⟩ := m_arr hA2 hC2
    refine ⟨Q3, ?_, hf.tr hf3, hA4, hB4⟩
    simp only [↓gI_b, ↓gR_b, ↓pI_b, ↓pZ_b, ↓pR_b, ↓ldI_b, ↓ldR_b, ↓stI_b, ↓stZ_b, ↓stR_b, zk_eq, sh_wI, sh_wR, rF_wI, iF_wR, ms30 h, ms30 hQs, true_and, and_true, and_self, ↓reduceIte, Int.toNat_natCast, Int.natCast_nonneg, Nat.reduceLT, Nat.reduceLeDiff, Nat.reduceEqDiff, ne_eq, not_false_eq_true, Nat.reduceAdd, reduceCtorEq, Int.reduceLT, Int.reduceLE, Int.reduceToNat, z0, ↓bnd_of hP, ↓zb2_of hQ, ↓zb2_of hsz, c', ↓bnd_of hQ3, hn]
    rfl
theorem m_merge1 (hA : mA time sn bt seen pr tl us un M) (hB : mB N sn mem l0 l1 l2 M) : ∃ Q, f_Md_mergeOf 30 1 M = some (((l1.length + l2.length : Nat) : Int) - ((mg1 time seen l1 l2).length : Int), Q) ∧ mFr M Q ∧ mA time sn bt seen pr tl us un Q ∧ mB N sn mem l0 [] (mg1 time seen l1 l2) Q := by
  obtain ⟨P, Q, n, hP, hQ, hf, hA2, hC2, hn⟩ := m_next hA hB.C
  obtain ⟨Q3, hQ3, hf3, hA4, hB4⟩ := m_arr hA2 hC2
  refine ⟨Q3, ?_, hf.tr hf3, hA4, hB4⟩
  have h := hA.1
  have z1 : zadd 1 1 = 2 := by decide
  have z0 : ¬ zeq 1 0 := by decide
  unfold f_Md_mergeOf
  rw [z1]
  simp only [↓gI_b, ↓gR_b, ↓pI_b, ↓pZ_b, ↓pR_b, ↓ldI_b, ↓ldR_b, ↓stI_b, ↓stZ_b, ↓stR_b, zk_eq, sh_wI, sh_wR, rF_wI, iF_wR, ms30 h, true_and, and_true, and_self, ↓reduceIte, Int.toNat_natCast, Int.natCast_nonneg, Nat.reduceLT, Nat.reduceLeDiff, Nat.reduceEqDiff, ne_eq, not_false_eq_true, Nat.reduceAdd, reduceCtorEq, Int.reduceLT, Int.reduceLE, Int.reduceToNat, z0, ↓bnd_of hP, ↓zb2_of hQ, ↓bnd_of hQ3, hn]
set_option maxRecDepth 10000 in
theorem ml_stamp (h : mSh M) (hG : RG M) (hN : iF M 30 1 = (N : Int)) (hN2 : N ≤ 520)  (κ : zHp → Option (zHp)) : ∀ (d n i : Nat) (P : zHp), i + d = N → d < n → Upd 37 (fun e => if iF M 40 e ≠ 0 ∧ iF M 36 e = 0 then iF M 30 2 else iF M 37 e) i M P → ∃ P2, f_Md_flushAll_L57 κ 30  n (i : Int) P = κ P2 ∧ Upd 37 (fun e => if iF M 40 e ≠ 0 ∧ iF M 36 e = 0 then iF M 30 2 else iF M 37 e) N M P2 := by
  intro d
  induction d with
  | zero =>
    intro n i P hi hn hU
    obtain ⟨n, rfl⟩ : ∃ k, n = k + 1 := ⟨n - 1, by omega⟩
    unfold f_Md_flushAll_L57
    have hP := hU.1.mSh h
    have hNP : iF P 30 1 = (N : Int) := (hU.2.2.1 30 1 (by decide)).trans hN
    have e1 : zle (N : Int) (i : Int) := (zle_iff (rgN (by omega)) (rgN (by omega))).mpr (by omega)
    have hiN : i = N := by omega
    subst hiN
    refine ⟨P, ?_, hU⟩
    simp only [↓gI_b, ↓gR_b, ↓pI_b, ↓pZ_b, ↓pR_b, ↓ldI_b, ↓ldR_b, ↓stI_b, ↓stZ_b, ↓stR_b, zk_eq, sh_wI, sh_wR, rF_wI, iF_wR, ms30 hP, ms31 hP, ms32 hP, ms33 hP, ms34 hP, ms35 hP, ms36 hP, ms37 hP, ms38 hP, ms39 hP, ms40 hP, ms41 hP, ms42 hP, ms43 hP, ms44 hP, ms45 hP, ms46 hP, ms47 hP, ms48 hP, ms49 hP, ms50 hP, mr0 hP, mr1 hP, mr2 hP, mr3 hP, mr4 hP, mr5 hP, mr6 hP, mr7 hP, mr8 hP, mr9 hP, mr10 hP, mr11 hP, mr12 hP, mr13 hP, mr14 hP, mr15 hP, mr16 hP, mr17 hP, mr18 hP, mr19 hP, true_and, and_true, and_self, ↓reduceIte, Int.toNat_natCast, Int.natCast_nonneg, Nat.reduceLT, Nat.reduceLeDiff, Nat.reduceEqDiff, ne_eq, not_false_eq_true, Nat.reduceAdd, reduceCtorEq, Int.reduceLT, Int.reduceLE, Int.reduceToNat, hNP, e1]
  | succ d ih =>
    intro n i P hi hn hU
    obtain ⟨n, rfl⟩ : ∃ k, n = k + 1 := ⟨n - 1, by omega⟩
    unfold f_Md_flushAll_L57
    have hP := hU.1.mSh h
    have hGP := hU.2.1
    have hNP : iF P 30 1 = (N : Int) := (hU.2.2.1 30 1 (by decide)).trans hN
    have e1 : ¬ zle (N : Int) (i : Int) := fun q => by have := (zle_iff (rgN (by omega)) (rgN (by omega))).mp q; omega
    have e2 : (i : Int) < 4096 := by omega
    have e3 : i < 520 := by omega
    have e5 := zaddN (i := i) (by omega)
    have f0 : iF P 40 i = iF M 40 i := hU.at (by decide)
    have f1 : iF P 36 i = iF M 36 i := hU.at (by decide)
    have f2 : iF P 37 i = iF M 37 i := hU.here
    have f3 : iF P 30 2 = iF M 30 2 := hU.at (by decide)
    have e6 := zeq_iff (hG 40 i) rg0
    have e7 := zeq_iff (hG 36 i) rg0
    by_cases c1 : iF M 40 i = 0
    · simp only [↓gI_b, ↓gR_b, ↓pI_b, ↓pZ_b, ↓pR_b, ↓ldI_b, ↓ldR_b, ↓stI_b, ↓stZ_b, ↓stR_b, zk_eq, sh_wI, sh_wR, rF_wI, iF_wR, ms30 hP, ms31 hP, ms32 hP, ms33 hP, ms34 hP, ms35 hP, ms36 hP, ms37 hP, ms38 hP, ms39 hP, ms40 hP, ms41 hP, ms42 hP, ms43 hP, ms44 hP, ms45 hP, ms46 hP, ms47 hP, ms48 hP, ms49 hP, ms50 hP, mr0 hP, mr1 hP, mr2 hP, mr3 hP, mr4 hP, mr5 hP, mr6 hP, mr7 hP, mr8 hP, mr9 hP, mr10 hP, mr11 hP, mr12 hP, mr13 hP, mr14 hP, mr15 hP, mr16 hP, mr17 hP, mr18 hP, mr19 hP, true_and, and_true, and_self, ↓reduceIte, Int.toNat_natCast, Int.natCast_nonneg, Nat.reduceLT, Nat.reduceLeDiff, Nat.reduceEqDiff, ne_eq, not_false_eq_true, Nat.reduceAdd, reduceCtorEq, Int.reduceLT, Int.reduceLE, Int.reduceToNat, hNP, e1, e2, e3, e5, f0, f1, f2, f3, e6, e7, eq_true c1]
      exact ih n (i + 1) P (by omega) (by omega) (hU.sk (by rw [if_neg (fun q => q.1 c1)]))
    by_cases c2 : iF M 36 i = 0
    · simp only [↓gI_b, ↓gR_b, ↓pI_b, ↓pZ_b, ↓pR_b, ↓ldI_b, ↓ldR_b, ↓stI_b, ↓stZ_b, ↓stR_b, zk_eq, sh_wI, sh_wR, rF_wI, iF_wR, ms30 hP, ms31 hP, ms32 hP, ms33 hP, ms34 hP, ms35 hP, ms36 hP, ms37 hP, ms38 hP, ms39 hP, ms40 hP, ms41 hP, ms42 hP, ms43 hP, ms44 hP, ms45 hP, ms46 hP, ms47 hP, ms48 hP, ms49 hP, ms50 hP, mr0 hP, mr1 hP, mr2 hP, mr3 hP, mr4 hP, mr5 hP, mr6 hP, mr7 hP, mr8 hP, mr9 hP, mr10 hP, mr11 hP, mr12 hP, mr13 hP, mr14 hP, mr15 hP, mr16 hP, mr17 hP, mr18 hP, mr19 hP, true_and, and_true, and_self, ↓reduceIte, Int.toNat_natCast, Int.natCast_nonneg, Nat.reduceLT, Nat.reduceLeDiff, Nat.reduceEqDiff, ne_eq, not_false_eq_true, Nat.reduceAdd, reduceCtorEq, Int.reduceLT, Int.reduceLE, Int.reduceToNat, hNP, e1, e2, e3, e5, f0, f1, f2, f3, e6, e7, c1, eq_true c2]
      exact ih n (i + 1) _ (by omega) (by omega) (hU.st (by decide) (by decide) (by rw [ms37 h]; exact e3) (by rw [if_pos ⟨c1, c2⟩]) (hG 30 2))
    · simp only [↓gI_b, ↓gR_b, ↓pI_b, ↓pZ_b, ↓pR_b, ↓ldI_b, ↓ldR_b, ↓stI_b, ↓stZ_b, ↓stR_b, zk_eq, sh_wI, sh_wR, rF_wI, iF_wR, ms30 hP, ms31 hP, ms32 hP, ms33 hP, ms34 hP, ms35 hP, ms36 hP, ms37 hP, ms38 hP, ms39 hP, ms40 hP, ms41 hP, ms42 hP, ms43 hP, ms44 hP, ms45 hP, ms46 hP, ms47 hP, ms48 hP, ms49 hP, ms50 hP, mr0 hP, mr1 hP, mr2 hP, mr3 hP, mr4 hP, mr5 hP, mr6 hP, mr7 hP, mr8 hP, mr9 hP, mr10 hP, mr11 hP, mr12 hP, mr13 hP, mr14 hP, mr15 hP, mr16 hP, mr17 hP, mr18 hP, mr19 hP, true_and, and_true, and_self, ↓reduceIte, Int.toNat_natCast, Int.natCast_nonneg, Nat.reduceLT, Nat.reduceLeDiff, Nat.reduceEqDiff, ne_eq, not_false_eq_true, Nat.reduceAdd, reduceCtorEq, Int.reduceLT, Int.reduceLE, Int.reduceToNat, hNP, e1, e2, e3, e5, f0, f1, f2, f3, e6, e7, c1, c2]
      exact ih n (i + 1) P (by omega) (by omega) (hU.sk (by rw [if_neg (fun q => c2 q.2)]))
/-- a flush where level 0 has room -/
theorem m_fl (hA : mA time sn bt seen pr tl us un M) (hB : mB N sn mem l0 l1 l2 M) (hm : mem ≠ []) (h4 : l0.length < 4) : ∃ P Q n R, f_Md_choose 30 (-1) (-1) M = some P ∧ f_Md_sift 30 0 P = some (n, Q) ∧ mSh Q ∧ iF Q 30 2 = iF M 30 2 ∧ iF Q 30 3 = iF M 30 3 ∧
    f_Md_flushAll_L57 (fun M40 => (pI M40 8 30 8 0).bind fun M41 => some M41) 30 zfu 0 (wI (wI Q 30 2 (zadd (iF Q 30 2) 1)) 30 3 (zadd (iF Q 30 3) 1)) = some R ∧ mFr M R ∧ mA time sn bt seen pr tl us [] R ∧ mB N sn [] (sift false time seen mem :: l0) l1 l2 R := by
  obtain ⟨b1, b2, b3, b4, b5, b6, b7, b8, b9, b10, b11, b12, b13, b14, b15⟩ := hB
  obtain ⟨P, Q, n, hP, hQ, q1, q2, q3, q4, q5, q6⟩ := m_chsift hA.1 hA.2.1 b1 b2 b5 hA.2.2.2.1 b3 b4 (a := -1) (b := -1) (l := 0) rgm1 rgm1 rg0 (by decide) (by decide)
  have hCS : CS (-1) (-1) 0 M N Q := ⟨q1, q2, q3, q4, q5⟩
  have hsel : mem.Perm (ent M N (fun e => iF M 36 e == -1 || iF M 36 e == -1)) := by
    refine b7.trans (List.Perm.of_eq (ent_cg (fun e _ => by rw [Bool.or_self]) (fun _ _ _ => rfl)))
  have ht : iF M 30 0 = time := hA.2.2.1
  have hsn : sn3 M = seen := hA.2.2.2.2.2.2.2.1
  have hQs := q1.mSh hA.1
  have hml : 1 ≤ mem.length := by cases mem with | nil => exact absurd rfl hm | cons a l => simp
  have n2 : iF Q 30 2 = iF M 30 2 := q3 30 2 (by decide) (by decide) (by decide)
  have n3 : iF Q 30 3 = (l0.length : Int) := (q3 30 3 (by decide) (by decide) (by decide)).trans b10
  have z2 : zadd (iF Q 30 2) 1 = iF M 30 2 + 1 := by rw [n2]; exact zadd_eq (by omega) (by omega)
  have z3 : zadd (iF Q 30 3) 1 = (l0.length : Int) + 1 := by rw [n3]; exact zadd_eq (by omega) (by omega)
  generalize hS : wI (wI Q 30 2 (zadd (iF Q 30 2) 1)) 30 3 (zadd (iF Q 30 3) 1) = S
  have hfS : mFr Q S := by rw [← hS]; exact (mFr.wI Q (by decide) (by decide)).tr (mFr.wI _ (by decide) (by decide))
  have hGS : RG S := by rw [← hS]; exact RG_wI (RG_wI q2 (rg_add _ _)) (rg_add _ _)
  have hSs := hfS.mSh hQs
  have hI : ∀ q k, ¬ (q = 30 ∧ (k = 2 ∨ k = 3)) → iF S q k = iF Q q k := fun q k hh => by
    rw [← hS, iF_wI, if_neg (fun c => hh ⟨c.1, Or.inr c.2.1⟩), iF_wI, if_neg (fun c => hh ⟨c.1, Or.inl c.2.1⟩)]
  have s2 : iF S 30 2 = iF M 30 2 + 1 := by
    rw [← hS, iF_wI, if_neg (by omega), iF_wI, ms30 hQs, if_pos (by decide)]; exact z2
  have s3 : iF S 30 3 = (l0.length : Int) + 1 := by
    rw [← hS, iF_wI, sh_wI, ms30 hQs, if_pos (by decide)]; exact z3
  obtain ⟨R, hR, hU⟩ := ml_stamp hSs hGS (by rw [hI 30 1 (by decide), q3 30 1 (by decide) (by decide) (by decide)]; exact b1) b2 (fun M40 => (pI M40 8 30 8 0).bind fun M41 => some M41) N zfu 0 S (by omega) (zfu_gt b2) (Upd.rf hGS)
  have hRs := hU.1.mSh hSs
  have hU0 : ∀ q k, q ≠ 37 → iF R q k = iF S q k := fun q k hq => hU.at hq
  have hJ : ∀ q k, ¬ (q = 30 ∧ k = 8) → iF (wI R 30 8 0) q k = iF R q k := fun q k hh => by rw [iF_wI, if_neg (fun c => hh ⟨c.1, c.2.1⟩)]
  -- all places behind it, by those of Q
  have hT : ∀ q k, q ≠ 37 → ¬ (q = 30 ∧ (k = 2 ∨ k = 3 ∨ k = 8)) → iF (wI R 30 8 0) q k = iF Q q k := fun q k h1 h2 => by
    rw [hJ q k (by omega), hU0 q k h1, hI q k (by omega)]
  have t2 : iF (wI R 30 8 0) 30 2 = iF M 30 2 + 1 := by rw [hJ 30 2 (by decide), hU0 30 2 (by decide)]; exact s2
  have t3 : iF (wI R 30 8 0) 30 3 = (l0.length : Int) + 1 := by rw [hJ 30 3 (by decide), hU0 30 3 (by decide)]; exact s3
  have t8 : iF (wI R 30 8 0) 30 8 = 0 := by rw [iF_wI, ms30 hRs, if_pos (by decide)]
  have t37 : ∀ e, e < N → iF (wI R 30 8 0) 37 e = if iF M 36 e = -1 ∧ iF Q 36 e = 0 then iF M 30 2 + 1 else iF M 37 e := by
    intro e he
    rw [hJ 37 e (by simp), hU.2.2.2 e, if_pos he]
    dsimp only
    rw [hI 40 e (by simp), hI 36 e (by simp), s2, hI 37 e (by simp), q4 e he, q3 37 e (by decide) (by decide) (by decide)]
    by_cases c : iF M 36 e = -1
    · simp [c]
    · simp [c]
  have hme : ∀ e, me (wI R 30 8 0) e = me M e := fun e => by
    rw [← hCS.meq e]
    unfold me
    rw [hT 34 _ (by decide) (by simp), hT 31 _ (by decide) (by simp), hT 32 _ (by decide) (by simp), hT 35 _ (by decide) (by simp), hT 33 _ (by decide) (by simp), hT 38 _ (by decide) (by simp), hT 39 _ (by decide) (by simp)]
  have h36 : ∀ e, iF (wI R 30 8 0) 36 e = iF Q 36 e := fun e => hT 36 e (by decide) (by simp)
  have hlv : ∀ k, lvE (wI R 30 8 0) N k = lvE Q N k := fun k => ent_cg (fun e _ => by rw [h36]) (fun e _ _ => (hme e).trans (hCS.meq e).symm)
  have hf : mFr M (wI R 30 8 0) := ((q1.tr hfS).tr hU.1).tr (mFr.wI R (by decide) (by decide))
  -- which entries are on level 0
  have hz : ∀ e, e < N → (iF Q 36 e = 0 ↔ (iF M 36 e = 0 ∨ (iF M 36 e = -1 ∧ kp false time seen (ent M N (fun e => iF M 36 e == -1 || iF M 36 e == -1)) (me M e) = true))) := by
    intro e he
    rw [q5 e he, ht, hsn]
    have e02 : decide ((0 : Int) = 2) = false := rfl
    rw [e02]
    by_cases c : iF M 36 e = -1
    · rw [if_pos (Or.inl c)]
      by_cases ck : kp false time seen (ent M N (fun e => iF M 36 e == -1 || iF M 36 e == -1)) (me M e) = true
      · rw [if_pos ck]; exact ⟨fun _ => Or.inr ⟨c, ck⟩, fun _ => rfl⟩
      · rw [if_neg ck]
        constructor
        · intro q; omega
        · rintro (q | q)
          · omega
          · exact absurd q.2 ck
    · rw [if_neg (by omega)]
      constructor
      · intro q; exact Or.inl q
      · rintro (q | q)
        · exact q
        · exact absurd q.1 c
  refine ⟨P, Q, n, wI R 30 8 0, hP, hQ, hQs, n2, n3.trans b10.symm, ?_, hf, ?_, ?_⟩
  · rw [hS]
    refine hR.trans ?_
    simp only [↓gI_b, ↓gR_b, ↓pI_b, ↓pZ_b, ↓pR_b, ↓ldI_b, ↓ldR_b, ↓stI_b, ↓stZ_b, ↓stR_b, zk_eq, sh_wI, sh_wR, rF_wI, iF_wR, ms30 hRs, true_and, and_true, and_self, ↓reduceIte, Int.toNat_natCast, Int.natCast_nonneg, Nat.reduceLT, Nat.reduceLeDiff, Nat.reduceEqDiff, ne_eq, not_false_eq_true, Nat.reduceAdd, reduceCtorEq, Int.reduceLT, Int.reduceLE, Int.reduceToNat]
  · obtain ⟨a1, a2, a3, a4, a5, a6, a7, a8, a9, a10, a11, a12, a13, a14⟩ := hA
    have g30 : ∀ k, k ≠ 2 → k ≠ 3 → k ≠ 8 → iF (wI R 30 8 0) 30 k = iF M 30 k := fun k h1 h2 h3 => by rw [hT 30 k (by decide) (by omega)]; exact q3 30 k (by decide) (by decide) (by decide)
    have gq : ∀ q k, 42 ≤ q → q ≤ 50 → iF (wI R 30 8 0) q k = iF M q k := fun q k h1 h2 => by rw [hT q k (by omega) (by omega)]; exact q3 q k (by omega) (by omega) (by omega)
    refine ⟨hf.mSh a1, RG_wI hU.2.1 rg0, ?_, ?_, ?_, ?_, ?_, ?_, ?_, ?_, ?_, ?_, ?_, ?_⟩
    · rw [g30 0 (by decide) (by decide) (by decide)]; exact a3
    · rw [g30 4 (by decide) (by decide) (by decide)]; exact a4
    · rw [g30 9 (by decide) (by decide) (by decide)]; exact a5
    · rw [g30 5 (by decide) (by decide) (by decide)]; exact a6
    · intro k b hb
      rw [gq 42 k (by decide) (by decide), gq 43 k (by decide) (by decide), gq 44 k (by decide) (by decide)]
      exact a7 k b hb
    · rw [← a8]
      unfold sn3 sv
      simp only [gq 45 _ (by decide) (by decide), gq 46 _ (by decide) (by decide)]
    · intro s hs
      rw [gq 45 s (by decide) (by decide), gq 46 s (by decide) (by decide)]
      exact a9 s hs
    · rw [g30 6 (by decide) (by decide) (by decide)]; exact a10
    · rw [g30 7 (by decide) (by decide) (by decide)]; exact a11
    · intro k u hu
      rw [gq 47 _ (by decide) (by decide)]
      exact a12 k u hu
    · rw [t8]; rfl
    · intro k u hu; simp at hu
  · refine ⟨?_, b2, b3, b4, ?_, ?_, ?_, ?_, ?_, ?_, ?_, ?_, ?_, ?_, ?_⟩
    · rw [hT 30 1 (by decide) (by decide), q3 30 1 (by decide) (by decide) (by decide)]; exact b1
    · intro e he
      rw [hT 34 e (by decide) (by simp), hT 35 e (by decide) (by simp), hT 32 e (by decide) (by simp), hT 31 e (by decide) (by simp), h36]
      exact hCS.eW (by decide) (by decide) (by decide) b5 e he
    · intro e f he hf2
      rw [h36, h36, hT 32 e (by decide) (by simp), hT 32 f (by decide) (by simp)]
      exact hCS.eU (by decide) (by decide) b6 e f he hf2
    · rw [hlv, hCS.gone (Or.inl rfl) (by decide) (by decide)]
    · rw [hlv, hCS.other (by decide) (by decide) (by decide) (by decide)]; exact b8
    · rw [hlv, hCS.other (by decide) (by decide) (by decide) (by decide)]; exact b9
    · rw [t3]; simp
    · intro k t hk
      cases k with
      | zero =>
        have hk' : t = sift false time seen mem := by simpa using hk.symm
        subst hk'
        refine (sift_perm hsel false time seen).trans (List.Perm.of_eq ?_)
        unfold sift tb0
        rw [ent_filter]
        refine ent_cg (fun e he => ?_) (fun e _ _ => (hme e).symm)
        rw [h36, t2, t37 e he, Bool.or_self]
        have hz' := hz e he
        by_cases c0 : iF Q 36 e = 0
        · by_cases c1 : iF M 36 e = -1
          · have hk2 : kp false time seen (ent M N (fun e => iF M 36 e == -1 || iF M 36 e == -1)) (me M e) = true := by
              rcases hz'.mp c0 with q | q
              · omega
              · exact q.2
            rw [if_pos ⟨c1, c0⟩]
            simp only [Bool.or_self] at hk2
            simp [c0, c1, hk2]
          · have c2 : iF M 36 e = 0 := by
              rcases hz'.mp c0 with q | q
              · exact q
              · exact absurd q.1 c1
            have := b12 e he c2
            rw [if_neg (fun q => c1 q.1)]
            have e1 : (iF M 36 e == -1) = false := by simpa using c1
            rw [e1]
            have e2 : ¬ (iF M 30 2 + 1 - iF M 37 e = ((0 : Nat) : Int)) := by omega
            simp only [Bool.false_and]
            symm
            rw [Bool.and_eq_false_iff]
            right
            simpa using e2
        · have e0 : (iF Q 36 e == 0) = false := by simpa using c0
          rw [e0]
          simp only [Bool.false_and]
          by_cases c1 : iF M 36 e = -1
          · have hk2 : ¬ kp false time seen (ent M N (fun e => iF M 36 e == -1 || iF M 36 e == -1)) (me M e) = true := fun q => c0 (hz'.mpr (Or.inr ⟨c1, q⟩))
            simp only [Bool.or_self] at hk2
            simp [hk2]
          · have e1 : (iF M 36 e == -1) = false := by simpa using c1
            rw [e1]; rfl
      | succ k =>
        have hk' : l0[k]? = some t := by simpa using hk
        refine (b11 k t hk').trans (List.Perm.of_eq ?_)
        unfold tb0
        refine ent_cg (fun e he => ?_) (fun e _ _ => (hme e).symm)
        rw [h36, t2, t37 e he]
        have hz' := hz e he
        by_cases c2 : iF M 36 e = 0
        · have c0 : iF Q 36 e = 0 := hz'.mpr (Or.inl c2)
          rw [if_neg (by omega)]
          simp only [c0, c2]
          rw [Bool.eq_iff_iff]
          simp
          omega
        · have e0 : (iF M 36 e == 0) = false := by simpa using c2
          rw [e0, Bool.false_and]
          by_cases c0 : iF Q 36 e = 0
          · have c1 : iF M 36 e = -1 := by
              rcases hz'.mp c0 with q | q
              · exact absurd q c2
              · exact q.1
            rw [if_pos ⟨c1, c0⟩]
            symm
            rw [Bool.and_eq_false_iff]
            right
            have : ¬ (iF M 30 2 + 1 - (iF M 30 2 + 1) = ((k + 1 : Nat) : Int)) := by omega
            simpa using this
          · have e1 : (iF Q 36 e == 0) = false := by simpa using c0
            rw [e1, Bool.false_and]
    · intro e he h0
      rw [h36] at h0
      rw [t2, t37 e he]
      rcases (hz e he).mp h0 with q | q
      · rw [if_neg (by omega)]
        have := b12 e he q
        simp only [List.length_cons]
        omega
      · rw [if_pos ⟨q.1, h0⟩]
        simp only [List.length_cons]
        omega
    · intro e he h12
      rw [h36] at h12
      have hq : iF M 36 e = iF Q 36 e ∧ (iF M 36 e = 1 ∨ iF M 36 e = 2) := by
        rw [q5 e he] at h12 ⊢
        by_cases c : iF M 36 e = -1 ∨ iF M 36 e = -1
        · rw [if_pos c] at h12
          split at h12 <;> omega
        · rw [if_neg c] at h12 ⊢
          exact ⟨rfl, h12⟩
      rw [t37 e he, if_neg (by omega), b13 e he hq.2]
      congr 1
      unfold rnk
      apply cnt_cg
      intro f hf2
      rw [h36, h36, hme, hme, ← hq.1]
      congr 1
      by_cases c : iF M 36 f = -1
      · have h5 : iF Q 36 f = 0 ∨ iF Q 36 f = 9 := by
          rw [q5 f hf2, if_pos (Or.inl c)]
          split
          · exact Or.inl rfl
          · exact Or.inr rfl
        have e1 : ¬ iF M 36 f = iF M 36 e := by omega
        have e2 : ¬ iF Q 36 f = iF M 36 e := by omega
        simp [e1, e2]
      · rw [q5 f hf2, if_neg (by omega)]
    · rw [t2]; omega
    · rw [t2]; simp only [List.length_nil]; omega
theorem m_flush (hA : mA time sn bt seen pr tl us un M) (hB : mB N sn mem l0 l1 l2 M) (h4 : l0.length ≤ 4) : ∃ Q, f_Md_flushAll 30 M = some Q ∧ mFr M Q ∧ mA time sn bt seen pr tl us (if mem.isEmpty then un else []) Q ∧ mB N sn [] (fl0 time seen mem l0 l1 l2).1 (fl0 time seen mem l0 l1 l2).2.1 (fl0 time seen mem l0 l1 l2).2.2 Q := by
  have h := hA.1
  have hsz := hB.C.size hA (k := -1) rgm1
  have hlen : (lvE M N (-1)).length = mem.length := hB.2.2.2.2.2.2.1.length_eq.symm
  have hml : mem.length ≤ N := by rw [← hlen]; exact ent_le
  have hN2 := hB.2.1
  rw [hlen] at hsz
  have e1 := zeq_iff (x := (mem.length : Int)) (y := 0) (rgN (by omega)) rg0
  unfold f_Md_flushAll fl0
  cases hm : mem with
  | nil =>
    rw [hm] at hsz hB e1
    have e2 : zeq ((([] : List En).length : Nat) : Int) 0 := rfl
    refine ⟨M, ?_, mFr.rf M, by simpa using hA, by simpa using hB⟩
    simp only [↓gI_b, ↓gR_b, ↓pI_b, ↓pZ_b, ↓pR_b, ↓ldI_b, ↓ldR_b, ↓stI_b, ↓stZ_b, ↓stR_b, zk_eq, sh_wI, sh_wR, rF_wI, iF_wR, ms30 h, true_and, and_true, and_self, ↓reduceIte, Int.toNat_natCast, Int.natCast_nonneg, Nat.reduceLT, Nat.reduceLeDiff, Nat.reduceEqDiff, ne_eq, not_false_eq_true, Nat.reduceAdd, reduceCtorEq, Int.reduceLT, Int.reduceLE, Int.reduceToNat, ↓zb2_of hsz, eq_true e2]
  | cons x xs =>
    have hne : mem ≠ [] := by rw [hm]; simp
    have e2 : ¬ zeq (mem.length : Int) 0 := fun q => by have := e1.mp q; rw [hm] at this; simp at this; omega
    rw [← hm]
    have hie : mem.isEmpty = false := by rw [hm]; rfl
    rw [hie]
    simp only [Bool.false_eq_true, if_false]
    have hz : iF M 30 3 = (l0.length : Int) := hB.2.2.2.2.2.2.2.2.2.1
    have e3 := zeq_iff (x := (l0.length : Int)) (y := 4) (rgN (by omega)) (by unfold rg; omega)
    by_cases c : l0.length = 4
    · have e4 : zeq (l0.length : Int) 4 := e3.mpr (by omega)
      rw [if_pos c]
      obtain ⟨Q1, hQ1, hf1, hA1, hB1⟩ := m_merge0 hA hB
      obtain ⟨P, Q, n, R, hP, hQ, hQs, n2, n3, hR, hf, hA2, hB2⟩ := m_fl hA1 hB1 hne (by decide)
      refine ⟨R, ?_, hf1.tr hf, hA2, hB2⟩
      generalize (fun M40 => (pI M40 8 30 8 0).bind fun M41 => some M41) = K at hR ⊢
      simp only [↓gI_b, ↓gR_b, ↓pI_b, ↓pZ_b, ↓pR_b, ↓ldI_b, ↓ldR_b, ↓stI_b, ↓stZ_b, ↓stR_b, zk_eq, sh_wI, sh_wR, rF_wI, iF_wR, ms30 h, ms30 hQs, true_and, and_true, and_self, ↓reduceIte, Int.toNat_natCast, Int.natCast_nonneg, Nat.reduceLT, Nat.reduceLeDiff, Nat.reduceEqDiff, ne_eq, not_false_eq_true, Nat.reduceAdd, reduceCtorEq, Int.reduceLT, Int.reduceLE, Int.reduceToNat, ↓zb2_of hsz, e2, hz, eq_true e4, ↓zb2_of hQ1, ↓bnd_of hP, ↓zb2_of hQ]
      rw [iF_wI, if_neg (by omega)]
      exact hR
    · have e4 : ¬ zeq (l0.length : Int) 4 := fun q => c (by have := e3.mp q; omega)
      rw [if_neg c]
      obtain ⟨P, Q, n, R, hP, hQ, hQs, n2, n3, hR, hf, hA2, hB2⟩ := m_fl hA hB hne (by omega)
      refine ⟨R, ?_, hf, hA2, hB2⟩
      generalize (fun M40 => (pI M40 8 30 8 0).bind fun M41 => some M41) = K at hR ⊢
      simp only [↓gI_b, ↓gR_b, ↓pI_b, ↓pZ_b, ↓pR_b, ↓ldI_b, ↓ldR_b, ↓stI_b, ↓stZ_b, ↓stR_b, zk_eq, sh_wI, sh_wR, rF_wI, iF_wR, ms30 h, ms30 hQs, true_and, and_true, and_self, ↓reduceIte, Int.toNat_natCast, Int.natCast_nonneg, Nat.reduceLT, Nat.reduceLeDiff, Nat.reduceEqDiff, ne_eq, not_false_eq_true, Nat.reduceAdd, reduceCtorEq, Int.reduceLT, Int.reduceLE, Int.reduceToNat, ↓zb2_of hsz, e2, hz, e4, ↓bnd_of hP, ↓zb2_of hQ]
      rw [iF_wI, if_neg (by omega)]
      exact hR
end MD10
