-- the model's readers: scan, table, segment, look; flush and merge
def ThC (M : zHp) (k0 m : Int) (f : Nat) : Prop := iF M 36 f ≠ 9 ∧ iF M 31 f = k0 ∧ iF M 32 f ≤ m
section MD26
variable {M : zHp} {N : Nat} {time sn : Int} {bt : List Bt} {seen : List Int} {pr tl : Int} {us vs : List Int} {u : Int} {un : List Un} {mem : List En} {l0 : List (List En)} {l1 l2 : List En}
theorem mB.dis (hB : mB N sn mem l0 l1 l2 M) : dis (allE mem l0 l1 l2) := by
  rw [dis_perm hB.all]
  unfold Jvm.Pilot.CLayerVaultLaw_law_r1508_47824f.dis ent
  rw [List.pairwise_map]
  have h1 : ((List.range N).filter (fun e => !(iF M 36 e == 9))).Pairwise (fun a b => a < b) := List.Pairwise.filter _ List.pairwise_lt_range
  refine h1.imp_of_mem (fun {x y} hx hy hxy => Or.inr (fun q => ?_))
  rw [eS_me, eS_me] at q
  simp only [List.mem_filter, List.mem_range, Bool.not_eq_true', beq_eq_false_iff_ne] at hx hy
  have := hB.2.2.2.2.2.1 x y hx.1 hy.1 hx.2 hy.2 q
  omega
set_option maxRecDepth 10000 in
theorem ml_there (h : mSh M) (hG : RG M) (hN : iF M 30 1 = (N : Int)) (hN2 : N ≤ 520) (hA : mA time sn bt seen pr tl us un M) {s k0 : Int} (hk0 : rg k0) (hV : isV seen s = true) (κ : Int → zHp → Option (Int × zHp)) : ∀ (d n i : Nat) (v : Int), i + d = N → d < n → ((v = -1 ∧ ∀ f, f < i → ¬ ThC M k0 (mst seen s) f) ∨ ∃ b, b < i ∧ v = (b : Int) ∧ ThC M k0 (mst seen s) b ∧ ∀ f, f < i → ThC M k0 (mst seen s) f → iF M 32 f ≤ iF M 32 b) → ∃ w, f_Md_there_L5 κ 30 s k0 n v (i : Int) M = κ w M ∧ ((w = -1 ∧ ∀ f, f < N → ¬ ThC M k0 (mst seen s) f) ∨ ∃ b, b < N ∧ w = (b : Int) ∧ ThC M k0 (mst seen s) b ∧ ∀ f, f < N → ThC M k0 (mst seen s) f → iF M 32 f ≤ iF M 32 b) := by
  intro d
  induction d with
  | zero =>
    intro n i v hi hn hv
    obtain ⟨n, rfl⟩ : ∃ k, n = k + 1 := ⟨n - 1, by omega⟩
    unfold f_Md_there_L5
    have e1 : zle (N : Int) (i : Int) := (zle_iff (rgN (by omega)) (rgN (by omega))).mpr (by omega)
    have hiN : i = N := by omega
    subst hiN
    refine ⟨v, ?_, hv⟩
    simp only [↓gI_b, ↓gR_b, ↓pI_b, ↓pZ_b, ↓pR_b, ↓ldI_b, ↓ldR_b, ↓stI_b, ↓stZ_b, ↓stR_b, zk_eq, sh_wI, sh_wR, rF_wI, iF_wR, ms30 h, ms31 h, ms32 h, ms33 h, ms34 h, ms35 h, ms36 h, ms37 h, ms38 h, ms39 h, ms40 h, ms41 h, ms42 h, ms43 h, ms44 h, ms45 h, ms46 h, ms47 h, ms48 h, ms49 h, ms50 h, mr0 h, mr1 h, mr2 h, mr3 h, mr4 h, mr5 h, mr6 h, mr7 h, mr8 h, mr9 h, mr10 h, mr11 h, mr12 h, mr13 h, mr14 h, mr15 h, mr16 h, mr17 h, mr18 h, mr19 h, true_and, and_true, and_self, ↓reduceIte, Int.toNat_natCast, Int.natCast_nonneg, Nat.reduceLT, Nat.reduceLeDiff, Nat.reduceEqDiff, ne_eq, not_false_eq_true, Nat.reduceAdd, reduceCtorEq, Int.reduceLT, Int.reduceLE, Int.reduceToNat, hN, e1]
  | succ d ih =>
    intro n i v hi hn hv
    obtain ⟨n, rfl⟩ : ∃ k, n = k + 1 := ⟨n - 1, by omega⟩
    unfold f_Md_there_L5
    have e1 : ¬ zle (N : Int) (i : Int) := fun q => by have := (zle_iff (rgN (by omega)) (rgN (by omega))).mp q; omega
    have e2 : (i : Int) < 4096 := by omega
    have e3 : i < 520 := by omega
    have e5 := zaddN (i := i) (by omega)
    have e6 := zeq_iff (hG 36 i) rg9
    have hs := m_isSeen hA hV (e := i) e3
    have e7 := zeq_iff (hG 31 i) hk0
    have z0 : zeq 0 0 := rfl
    have z1 : ¬ zeq 1 0 := by decide
    by_cases c1 : iF M 36 i = 9
    · simp only [↓gI_b, ↓gR_b, ↓pI_b, ↓pZ_b, ↓pR_b, ↓ldI_b, ↓ldR_b, ↓stI_b, ↓stZ_b, ↓stR_b, zk_eq, sh_wI, sh_wR, rF_wI, iF_wR, ms30 h, ms31 h, ms32 h, ms33 h, ms34 h, ms35 h, ms36 h, ms37 h, ms38 h, ms39 h, ms40 h, ms41 h, ms42 h, ms43 h, ms44 h, ms45 h, ms46 h, ms47 h, ms48 h, ms49 h, ms50 h, mr0 h, mr1 h, mr2 h, mr3 h, mr4 h, mr5 h, mr6 h, mr7 h, mr8 h, mr9 h, mr10 h, mr11 h, mr12 h, mr13 h, mr14 h, mr15 h, mr16 h, mr17 h, mr18 h, mr19 h, true_and, and_true, and_self, ↓reduceIte, Int.toNat_natCast, Int.natCast_nonneg, Nat.reduceLT, Nat.reduceLeDiff, Nat.reduceEqDiff, ne_eq, not_false_eq_true, Nat.reduceAdd, reduceCtorEq, Int.reduceLT, Int.reduceLE, Int.reduceToNat, hN, e1, e2, e3, e5, e6, eq_true c1]
      have hn1 : ¬ ThC M k0 (mst seen s) i := fun q => q.1 c1
      refine ih n (i + 1) v (by omega) (by omega) ?_
      rcases hv with ⟨hv, hf⟩ | ⟨b, hbl, hv, hB, hm⟩
      · exact Or.inl ⟨hv, allS hf hn1⟩
      · exact Or.inr ⟨b, by omega, hv, hB, allS (P := fun f => ThC M k0 (mst seen s) f → iF M 32 f ≤ iF M 32 b) hm (fun q => absurd q hn1)⟩
    by_cases c2 : ¬ iF M 31 i = k0
    · simp only [↓gI_b, ↓gR_b, ↓pI_b, ↓pZ_b, ↓pR_b, ↓ldI_b, ↓ldR_b, ↓stI_b, ↓stZ_b, ↓stR_b, zk_eq, sh_wI, sh_wR, rF_wI, iF_wR, ms30 h, ms31 h, ms32 h, ms33 h, ms34 h, ms35 h, ms36 h, ms37 h, ms38 h, ms39 h, ms40 h, ms41 h, ms42 h, ms43 h, ms44 h, ms45 h, ms46 h, ms47 h, ms48 h, ms49 h, ms50 h, mr0 h, mr1 h, mr2 h, mr3 h, mr4 h, mr5 h, mr6 h, mr7 h, mr8 h, mr9 h, mr10 h, mr11 h, mr12 h, mr13 h, mr14 h, mr15 h, mr16 h, mr17 h, mr18 h, mr19 h, true_and, and_true, and_self, ↓reduceIte, Int.toNat_natCast, Int.natCast_nonneg, Nat.reduceLT, Nat.reduceLeDiff, Nat.reduceEqDiff, ne_eq, not_false_eq_true, Nat.reduceAdd, reduceCtorEq, Int.reduceLT, Int.reduceLE, Int.reduceToNat, hN, e1, e2, e3, e5, e6, c1, e7, c2]
      have hn1 : ¬ ThC M k0 (mst seen s) i := fun q => c2 q.2.1
      refine ih n (i + 1) v (by omega) (by omega) ?_
      rcases hv with ⟨hv, hf⟩ | ⟨b, hbl, hv, hB, hm⟩
      · exact Or.inl ⟨hv, allS hf hn1⟩
      · exact Or.inr ⟨b, by omega, hv, hB, allS (P := fun f => ThC M k0 (mst seen s) f → iF M 32 f ≤ iF M 32 b) hm (fun q => absurd q hn1)⟩
    have c2 := Decidable.not_not.mp c2
    by_cases c3 : ¬ iF M 32 i ≤ mst seen s
    · rw [if_neg c3] at hs
      simp only [↓gI_b, ↓gR_b, ↓pI_b, ↓pZ_b, ↓pR_b, ↓ldI_b, ↓ldR_b, ↓stI_b, ↓stZ_b, ↓stR_b, zk_eq, sh_wI, sh_wR, rF_wI, iF_wR, ms30 h, ms31 h, ms32 h, ms33 h, ms34 h, ms35 h, ms36 h, ms37 h, ms38 h, ms39 h, ms40 h, ms41 h, ms42 h, ms43 h, ms44 h, ms45 h, ms46 h, ms47 h, ms48 h, ms49 h, ms50 h, mr0 h, mr1 h, mr2 h, mr3 h, mr4 h, mr5 h, mr6 h, mr7 h, mr8 h, mr9 h, mr10 h, mr11 h, mr12 h, mr13 h, mr14 h, mr15 h, mr16 h, mr17 h, mr18 h, mr19 h, true_and, and_true, and_self, ↓reduceIte, Int.toNat_natCast, Int.natCast_nonneg, Nat.reduceLT, Nat.reduceLeDiff, Nat.reduceEqDiff, ne_eq, not_false_eq_true, Nat.reduceAdd, reduceCtorEq, Int.reduceLT, Int.reduceLE, Int.reduceToNat, hN, e1, e2, e3, e5, e6, c1, e7, eq_true c2, ↓zb2_of hs, z0]
      have hn1 : ¬ ThC M k0 (mst seen s) i := fun q => c3 q.2.2
      refine ih n (i + 1) v (by omega) (by omega) ?_
      rcases hv with ⟨hv, hf⟩ | ⟨b, hbl, hv, hB, hm⟩
      · exact Or.inl ⟨hv, allS hf hn1⟩
      · exact Or.inr ⟨b, by omega, hv, hB, allS (P := fun f => ThC M k0 (mst seen s) f → iF M 32 f ≤ iF M 32 b) hm (fun q => absurd q hn1)⟩
    have c3 := Decidable.not_not.mp c3
    rw [if_pos c3] at hs
    have c : ThC M k0 (mst seen s) i := ⟨c1, c2, c3⟩
    rcases hv with ⟨rfl, hf⟩ | ⟨b, hbl, rfl, hB, hm⟩
    · have e9 : zlt (-1) 0 := by decide
      simp only [↓gI_b, ↓gR_b, ↓pI_b, ↓pZ_b, ↓pR_b, ↓ldI_b, ↓ldR_b, ↓stI_b, ↓stZ_b, ↓stR_b, zk_eq, sh_wI, sh_wR, rF_wI, iF_wR, ms30 h, ms31 h, ms32 h, ms33 h, ms34 h, ms35 h, ms36 h, ms37 h, ms38 h, ms39 h, ms40 h, ms41 h, ms42 h, ms43 h, ms44 h, ms45 h, ms46 h, ms47 h, ms48 h, ms49 h, ms50 h, mr0 h, mr1 h, mr2 h, mr3 h, mr4 h, mr5 h, mr6 h, mr7 h, mr8 h, mr9 h, mr10 h, mr11 h, mr12 h, mr13 h, mr14 h, mr15 h, mr16 h, mr17 h, mr18 h, mr19 h, true_and, and_true, and_self, ↓reduceIte, Int.toNat_natCast, Int.natCast_nonneg, Nat.reduceLT, Nat.reduceLeDiff, Nat.reduceEqDiff, ne_eq, not_false_eq_true, Nat.reduceAdd, reduceCtorEq, Int.reduceLT, Int.reduceLE, Int.reduceToNat, hN, e1, e2, e3, e5, e6, c1, e7, eq_true c2, ↓zb2_of hs, z1, e9]
      exact ih n (i + 1) _ (by omega) (by omega) (Or.inr ⟨i, by omega, rfl, c, allS (P := fun f => ThC M k0 (mst seen s) f → iF M 32 f ≤ iF M 32 i) (fun f hf2 q => absurd q (hf f hf2)) (fun _ => Int.le_refl _)⟩)
    · have e9 : ¬ zlt (b : Int) 0 := fun q => by have := (zlt_iff (rgN (by omega)) rg0).mp q; omega
      have b1 : (b : Int) < 4096 := by omega
      have b2 : b < 520 := by omega
      have e10 := zle_iff (hG 32 i) (hG 32 b)
      by_cases c4 : iF M 32 i ≤ iF M 32 b
      · simp only [↓gI_b, ↓gR_b, ↓pI_b, ↓pZ_b, ↓pR_b, ↓ldI_b, ↓ldR_b, ↓stI_b, ↓stZ_b, ↓stR_b, zk_eq, sh_wI, sh_wR, rF_wI, iF_wR, ms30 h, ms31 h, ms32 h, ms33 h, ms34 h, ms35 h, ms36 h, ms37 h, ms38 h, ms39 h, ms40 h, ms41 h, ms42 h, ms43 h, ms44 h, ms45 h, ms46 h, ms47 h, ms48 h, ms49 h, ms50 h, mr0 h, mr1 h, mr2 h, mr3 h, mr4 h, mr5 h, mr6 h, mr7 h, mr8 h, mr9 h, mr10 h, mr11 h, mr12 h, mr13 h, mr14 h, mr15 h, mr16 h, mr17 h, mr18 h, mr19 h, true_and, and_true, and_self, ↓reduceIte, Int.toNat_natCast, Int.natCast_nonneg, Nat.reduceLT, Nat.reduceLeDiff, Nat.reduceEqDiff, ne_eq, not_false_eq_true, Nat.reduceAdd, reduceCtorEq, Int.reduceLT, Int.reduceLE, Int.reduceToNat, hN, e1, e2, e3, e5, e6, c1, e7, eq_true c2, ↓zb2_of hs, z1, e9, b1, b2, e10, c4]
        exact ih n (i + 1) _ (by omega) (by omega) (Or.inr ⟨b, by omega, rfl, hB, allS (P := fun f => ThC M k0 (mst seen s) f → iF M 32 f ≤ iF M 32 b) hm (fun _ => c4)⟩)
      · simp only [↓gI_b, ↓gR_b, ↓pI_b, ↓pZ_b, ↓pR_b, ↓ldI_b, ↓ldR_b, ↓stI_b, ↓stZ_b, ↓stR_b, zk_eq, sh_wI, sh_wR, rF_wI, iF_wR, ms30 h, ms31 h, ms32 h, ms33 h, ms34 h, ms35 h, ms36 h, ms37 h, ms38 h, ms39 h, ms40 h, ms41 h, ms42 h, ms43 h, ms44 h, ms45 h, ms46 h, ms47 h, ms48 h, ms49 h, ms50 h, mr0 h, mr1 h, mr2 h, mr3 h, mr4 h, mr5 h, mr6 h, mr7 h, mr8 h, mr9 h, mr10 h, mr11 h, mr12 h, mr13 h, mr14 h, mr15 h, mr16 h, mr17 h, mr18 h, mr19 h, true_and, and_true, and_self, ↓reduceIte, Int.toNat_natCast, Int.natCast_nonneg, Nat.reduceLT, Nat.reduceLeDiff, Nat.reduceEqDiff, ne_eq, not_false_eq_true, Nat.reduceAdd, reduceCtorEq, Int.reduceLT, Int.reduceLE, Int.reduceToNat, hN, e1, e2, e3, e5, e6, c1, e7, eq_true c2, ↓zb2_of hs, z1, e9, b1, b2, e10, c4]
        exact ih n (i + 1) _ (by omega) (by omega) (Or.inr ⟨i, by omega, rfl, c, allS (P := fun f => ThC M k0 (mst seen s) f → iF M 32 f ≤ iF M 32 i) (fun f hf2 q => by have := hm f hf2 q; omega) (fun _ => Int.le_refl _)⟩)
theorem m_there (hA : mA time sn bt seen pr tl us un M) (hB : mB N sn mem l0 l1 l2 M) {s k0 : Int} (hk0 : rg k0) (hV : isV seen s = true) : f_Md_there 30 s k0 M = some (if thr time (mst seen s) (allE mem l0 l1 l2) k0 = true then 1 else 0, M) := by
  obtain ⟨h, hG, a1, a2, a3, a4, a5, a6, a7⟩ := mA_iff.mp hA
  have hsr := srt_srd hB.dis
  have hp : (srt (allE mem l0 l1 l2)).Perm (ent M N (fun e => !(iF M 36 e == 9))) := (srt_perm _).trans hB.all
  obtain ⟨w, h1, h2⟩ := ml_there h hG hB.1 hB.2.1 hA hk0 hV (fun v32 M33 =>
      if zlt v32 0 then
        some (0, M33)
      else
      zb2 (f_Md_gone 30 v32 M33) fun x37 M36 =>
      if zeq x37 0 then
        some (1, M36)
      else
      some (0, M36)) N zfu 0 (-1) (by omega) (zfu_gt hB.2.1) (Or.inl ⟨rfl, fun f hf => by omega⟩)
  unfold f_Md_there
  rw [zk_eq, ms30 h, if_pos rfl]
  refine h1.trans ?_
  unfold thr
  rcases h2 with ⟨rfl, hf⟩ | ⟨b, hb, rfl, ⟨c1, c2, c3⟩, hm⟩
  · have hn : best (srt (allE mem l0 l1 l2)) k0 (mst seen s) = none := best_none.mpr (fun y hy h3 h4 => by
      obtain ⟨e, he, hle, rfl⟩ := mem_ent.mp (hp.mem_iff.mp hy)
      rw [eK_me] at h3
      rw [eS_me] at h4
      exact hf e he ⟨by simpa using hle, h3, h4⟩)
    rw [if_pos (by decide), hn]
    rfl
  · have hn : best (srt (allE mem l0 l1 l2)) k0 (mst seen s) = some (me M b) := best_of hsr (hp.mem_iff.mpr (mem_ent.mpr ⟨b, hb, by simpa using c1, rfl⟩)) (by rw [eK_me]; exact c2) (by rw [eS_me]; exact c3) (fun y hy h3 h4 => by
      obtain ⟨e, he, hle, rfl⟩ := mem_ent.mp (hp.mem_iff.mp hy)
      rw [eK_me] at h3
      rw [eS_me] at h4 ⊢
      rw [eS_me]
      exact hm e he ⟨by simpa using hle, h3, h4⟩)
    have hW := hB.2.2.2.2.1 b hb
    have hN2 := hB.2.1
    have hg := m_gone h hG (e := b) (by omega) hW.1 hW.2.1
    rw [if_neg (fun q => by have := (zlt_iff (rgN (by omega)) rg0).mp q; omega), zb2_of hg, hn, a1]
    have z0 : zeq 0 0 := rfl
    have z1 : ¬ zeq 1 0 := by decide
    by_cases c : goneB time (me M b) = true
    · rw [if_pos c, if_neg z1]
      simp only [c, Bool.not_true, Bool.false_eq_true, if_false]
    · have c' : goneB time (me M b) = false := by simpa using c
      simp only [if_neg c, if_pos z0, c', Bool.not_false, if_true]
      rfl
theorem ml_scan (hA : mA time sn bt seen pr tl us un M) (hB : mB N sn mem l0 l1 l2 M) {s a3 : Int} (hV : isV seen s = true) (ha : rg a3) : ∀ (d n : Nat) (v4 v5 : Int), 32 - v5 ≤ d → 0 ≤ v5 → rg v5 → d < n → 0 ≤ v4 → v4 ≤ a3 →
    f_Md_scan_L28 (fun M13 => some ((-2), M13)) 30 s a3 n v4 v5 M = some (scnN time (mst seen s) (allE mem l0 l1 l2) (d + 1) v5 (a3 - v4), M) := by
  intro d
  induction d with
  | zero =>
    intro n v4 v5 hd h0 hr hn hv hv2
    obtain ⟨n, rfl⟩ : ∃ k, n = k + 1 := ⟨n - 1, by omega⟩
    have e1 : zle 32 v5 := (zle_iff (by unfold rg; omega) hr).mpr (by omega)
    unfold f_Md_scan_L28 scnN
    rw [if_pos e1, if_pos (by omega)]
  | succ d ih =>
    intro n v4 v5 hd h0 hr hn hv hv2
    obtain ⟨n, rfl⟩ : ∃ k, n = k + 1 := ⟨n - 1, by omega⟩
    have e1 := zle_iff (x := 32) (y := v5) (by unfold rg; omega) hr
    unfold f_Md_scan_L28 scnN
    by_cases c : 32 ≤ v5
    · rw [if_pos (e1.mpr c), if_pos c]
    · rw [if_neg (fun q => c (e1.mp q)), if_neg c]
      have ht := m_there hA hB hr hV
      have e2 : zadd v5 1 = v5 + 1 := zadd_eq (by omega) (by omega)
      have z0 : zeq 0 0 := rfl
      have z1 : ¬ zeq 1 0 := by decide
      by_cases c2 : thr time (mst seen s) (allE mem l0 l1 l2) v5 = true
      · rw [if_pos c2] at ht
        rw [if_pos c2, zb2_of ht, if_neg z1]
        have e3 := zeq_iff (x := v4) (y := a3) (by unfold rg at *; omega) ha
        by_cases c3 : v4 = a3
        · rw [if_pos (e3.mpr c3), if_pos (by omega)]
        · unfold rg at ha
          have e4 : zadd v4 1 = v4 + 1 := zadd_eq (by omega) (by omega)
          rw [if_neg (fun q => c3 (e3.mp q)), if_neg (by omega), e2, e4, ih n (v4 + 1) (v5 + 1) (by omega) (by omega) (by unfold rg; omega) (by omega) (by omega) (by omega)]
          rw [show a3 - (v4 + 1) = a3 - v4 - 1 by omega]
      · rw [if_neg c2] at ht
        rw [if_neg c2, zb2_of ht, if_pos z0, e2]
        exact ih n v4 (v5 + 1) (by omega) (by omega) (by unfold rg; omega) (by omega) hv hv2
def scq (time most : Int) (A : List En) (frm k : Int) : Int := scnN time most A 33 (if 0 ≤ frm then frm else 0) k
theorem m_scan (hA : mA time sn bt seen pr tl us un M) (hB : mB N sn mem l0 l1 l2 M) {s a2 a3 : Int} (hs : rg s) (h2 : rg a2) (h3 : rg a3) : f_Md_scan 30 s a2 a3 M = some (if isV seen s = true ∧ 0 ≤ a3 then scq time (mst seen s) (allE mem l0 l1 l2) a2 a3 else -1, M) := by
  have h := (mA_iff.mp hA).1
  have hv := m_isView hA hs
  have z0 : zeq 0 0 := rfl
  have z1 : ¬ zeq 1 0 := by decide
  have e3 := zle_iff (x := 0) (y := a3) rg0 h3
  have e2 := zle_iff (x := 0) (y := a2) rg0 h2
  unfold f_Md_scan
  by_cases c1 : isV seen s = true
  · rw [if_pos c1] at hv
    by_cases c2 : 0 ≤ a3
    · have cc : isV seen s = true ∧ 0 ≤ a3 := ⟨c1, c2⟩
      rw [if_pos cc, zk_eq, ms30 h, if_pos rfl, zb2_of hv, if_neg z1, if_pos (e3.mpr c2)]
      unfold scq
      by_cases c3 : 0 ≤ a2
      · rw [if_pos (e2.mpr c3), if_pos c3, ml_scan hA hB c1 h3 32 zfu 0 a2 (by omega) c3 h2 (by unfold zfu; omega) (by omega) c2, Int.sub_zero]
      · rw [if_neg (fun q => c3 (e2.mp q)), if_neg c3, ml_scan hA hB c1 h3 32 zfu 0 0 (by omega) (by omega) rg0 (by unfold zfu; omega) (by omega) c2, Int.sub_zero]
    · have cc : ¬ (isV seen s = true ∧ 0 ≤ a3) := fun q => c2 q.2
      rw [if_neg cc, zk_eq, ms30 h, if_pos rfl, zb2_of hv, if_neg z1, if_neg (fun q => c2 (e3.mp q))]
  · have cc : ¬ (isV seen s = true ∧ 0 ≤ a3) := fun q => c1 q.1
    rw [if_neg c1] at hv
    rw [if_neg cc, zk_eq, ms30 h, if_pos rfl, zb2_of hv, if_pos z0]
theorem mxS_rg2 : ∀ (t : List En) (b : Int), rg b → (∀ e ∈ t, rg (eS e)) → rg (t.foldl (fun b e => if b < eS e then eS e else b) b)
  | [], b, hb, _ => hb
  | a :: t, b, hb, h => by
    rw [List.foldl_cons]
    have h1 := h a List.mem_cons_self
    refine mxS_rg2 t _ ?_ (fun e he => h e (List.mem_cons_of_mem a he))
    by_cases c : b < eS a
    · rw [if_pos c]; exact h1
    · rw [if_neg c]; exact hb
set_option maxRecDepth 10000 in
theorem ml_table (h : mSh M) (hG : RG M) (hB : mB N sn mem l0 l1 l2 M) {l k : Int} (hl : l = -1 ∨ l = 0 ∨ l = 1 ∨ l = 2) (hk : rg k) (κ : Int → Int → zHp → Option (Int × zHp)) : ∀ (d n i : Nat) (v w : Int), i + d = N → d < n → v = ((cnt (lieB M l k) i : Nat) : Int) → w = mxS (ent M i (lieB M l k)) →
    f_Md_table_L49 κ 30 l k n v w (i : Int) M = κ ((cnt (lieB M l k) N : Nat) : Int) (mxS (ent M N (lieB M l k))) M := by
  have hN := hB.1
  have hN2 := hB.2.1
  intro d
  induction d with
  | zero =>
    intro n i v w hi hn hv hw
    obtain ⟨n, rfl⟩ : ∃ k, n = k + 1 := ⟨n - 1, by omega⟩
    unfold f_Md_table_L49
    have e1 : zle (N : Int) (i : Int) := (zle_iff (rgN (by omega)) (rgN (by omega))).mpr (by omega)
    have hiN : i = N := by omega
    subst hiN
    simp only [↓gI_b, ↓gR_b, ↓pI_b, ↓pZ_b, ↓pR_b, ↓ldI_b, ↓ldR_b, ↓stI_b, ↓stZ_b, ↓stR_b, zk_eq, sh_wI, sh_wR, rF_wI, iF_wR, ms30 h, ms31 h, ms32 h, ms33 h, ms34 h, ms35 h, ms36 h, ms37 h, ms38 h, ms39 h, ms40 h, ms41 h, ms42 h, ms43 h, ms44 h, ms45 h, ms46 h, ms47 h, ms48 h, ms49 h, ms50 h, mr0 h, mr1 h, mr2 h, mr3 h, mr4 h, mr5 h, mr6 h, mr7 h, mr8 h, mr9 h, mr10 h, mr11 h, mr12 h, mr13 h, mr14 h, mr15 h, mr16 h, mr17 h, mr18 h, mr19 h, true_and, and_true, and_self, ↓reduceIte, Int.toNat_natCast, Int.natCast_nonneg, Nat.reduceLT, Nat.reduceLeDiff, Nat.reduceEqDiff, ne_eq, not_false_eq_true, Nat.reduceAdd, reduceCtorEq, Int.reduceLT, Int.reduceLE, Int.reduceToNat, hN, e1, hv, hw]
  | succ d ih =>
    intro n i v w hi hn hv hw
    obtain ⟨n, rfl⟩ : ∃ k, n = k + 1 := ⟨n - 1, by omega⟩
    unfold f_Md_table_L49
    have e1 : ¬ zle (N : Int) (i : Int) := fun q => by have := (zle_iff (rgN (by omega)) (rgN (by omega))).mp q; omega
    have e2 : (i : Int) < 4096 := by omega
    have e3 : i < 520 := by omega
    have e5 := zaddN (i := i) (by omega)
    have hb := m_lies h hG hB (e := i) (by omega) hl hk
    have z0 : zeq 0 0 := rfl
    have z1 : ¬ zeq 1 0 := by decide
    have hwr : rg w := by
      rw [hw]
      exact mxS_rg2 _ _ rg0 (fun e he => by
        obtain ⟨j, -, -, rfl⟩ := mem_ent.mp he
        rw [eS_me]; exact hG 32 j)
    have e6 := zle_iff (hG 32 i) hwr
    by_cases c1 : ¬ lieB M l k i = true
    · rw [if_neg c1] at hb
      simp only [↓gI_b, ↓gR_b, ↓pI_b, ↓pZ_b, ↓pR_b, ↓ldI_b, ↓ldR_b, ↓stI_b, ↓stZ_b, ↓stR_b, zk_eq, sh_wI, sh_wR, rF_wI, iF_wR, ms30 h, ms31 h, ms32 h, ms33 h, ms34 h, ms35 h, ms36 h, ms37 h, ms38 h, ms39 h, ms40 h, ms41 h, ms42 h, ms43 h, ms44 h, ms45 h, ms46 h, ms47 h, ms48 h, ms49 h, ms50 h, mr0 h, mr1 h, mr2 h, mr3 h, mr4 h, mr5 h, mr6 h, mr7 h, mr8 h, mr9 h, mr10 h, mr11 h, mr12 h, mr13 h, mr14 h, mr15 h, mr16 h, mr17 h, mr18 h, mr19 h, true_and, and_true, and_self, ↓reduceIte, Int.toNat_natCast, Int.natCast_nonneg, Nat.reduceLT, Nat.reduceLeDiff, Nat.reduceEqDiff, ne_eq, not_false_eq_true, Nat.reduceAdd, reduceCtorEq, Int.reduceLT, Int.reduceLE, Int.reduceToNat, hN, e1, e2, e3, e5, ↓zb2_of hb, z0]
      refine ih n (i + 1) v w (by omega) (by omega) (hv.trans (cnt_sn c1)) ?_
      rw [ent_self, if_neg c1, List.append_nil]; exact hw
    have c1 := Decidable.not_not.mp c1
    rw [if_pos c1] at hb
    have hst : mxS (ent M (i + 1) (lieB M l k)) = if w < iF M 32 i then iF M 32 i else w := by
      rw [ent_self, if_pos c1]
      unfold mxS at hw ⊢
      rw [List.foldl_append, ← hw, List.foldl_cons, List.foldl_nil, eS_me]
    have hc := cnt_st c1 (by omega)
    rw [← hv] at hc
    by_cases c2 : iF M 32 i ≤ w
    · simp only [↓gI_b, ↓gR_b, ↓pI_b, ↓pZ_b, ↓pR_b, ↓ldI_b, ↓ldR_b, ↓stI_b, ↓stZ_b, ↓stR_b, zk_eq, sh_wI, sh_wR, rF_wI, iF_wR, ms30 h, ms31 h, ms32 h, ms33 h, ms34 h, ms35 h, ms36 h, ms37 h, ms38 h, ms39 h, ms40 h, ms41 h, ms42 h, ms43 h, ms44 h, ms45 h, ms46 h, ms47 h, ms48 h, ms49 h, ms50 h, mr0 h, mr1 h, mr2 h, mr3 h, mr4 h, mr5 h, mr6 h, mr7 h, mr8 h, mr9 h, mr10 h, mr11 h, mr12 h, mr13 h, mr14 h, mr15 h, mr16 h, mr17 h, mr18 h, mr19 h, true_and, and_true, and_self, ↓reduceIte, Int.toNat_natCast, Int.natCast_nonneg, Nat.reduceLT, Nat.reduceLeDiff, Nat.reduceEqDiff, ne_eq, not_false_eq_true, Nat.reduceAdd, reduceCtorEq, Int.reduceLT, Int.reduceLE, Int.reduceToNat, hN, e1, e2, e3, e5, ↓zb2_of hb, z1, e6, c2]
      exact ih n (i + 1) _ _ (by omega) (by omega) hc (by rw [hst, if_neg (by omega)])
    · simp only [↓gI_b, ↓gR_b, ↓pI_b, ↓pZ_b, ↓pR_b, ↓ldI_b, ↓ldR_b, ↓stI_b, ↓stZ_b, ↓stR_b, zk_eq, sh_wI, sh_wR, rF_wI, iF_wR, ms30 h, ms31 h, ms32 h, ms33 h, ms34 h, ms35 h, ms36 h, ms37 h, ms38 h, ms39 h, ms40 h, ms41 h, ms42 h, ms43 h, ms44 h, ms45 h, ms46 h, ms47 h, ms48 h, ms49 h, ms50 h, mr0 h, mr1 h, mr2 h, mr3 h, mr4 h, mr5 h, mr6 h, mr7 h, mr8 h, mr9 h, mr10 h, mr11 h, mr12 h, mr13 h, mr14 h, mr15 h, mr16 h, mr17 h, mr18 h, mr19 h, true_and, and_true, and_self, ↓reduceIte, Int.toNat_natCast, Int.natCast_nonneg, Nat.reduceLT, Nat.reduceLeDiff, Nat.reduceEqDiff, ne_eq, not_false_eq_true, Nat.reduceAdd, reduceCtorEq, Int.reduceLT, Int.reduceLE, Int.reduceToNat, hN, e1, e2, e3, e5, ↓zb2_of hb, z1, e6, c2]
      exact ih n (i + 1) _ _ (by omega) (by omega) hc (by rw [hst, if_pos (by omega)])
/-- what can be seen of a table -/
def tbq (t : List En) (what : Int) : Int := if what = 0 then (t.length : Int) else if what = 1 then flt t else if what = 2 then hdK t else if what = 3 then laK t else if what = 4 then mxS t else -2
def tabq (l0 : List (List En)) (l1 l2 : List En) (l k what : Int) : Int := if l < 0 ∨ 2 < l then -2 else if k = -1 then ((lvT l0 l1 l2 l).length : Int) else if k < 0 then -2 else match (lvT l0 l1 l2 l)[k.toNat]? with
  | none => -2
  | some t => tbq t what
theorem m_table (hA : mA time sn bt seen pr tl us un M) (hB : mB N sn mem l0 l1 l2 M) (hS : sS mem l0 l1 l2) (h4 : l0.length ≤ 4) {l k what : Int} (r1 : rg l) (r2 : rg k) (r3 : rg what) : f_Md_table 30 l k what M = some (tabq l0 l1 l2 l k what, M) := by
  obtain ⟨h, hG, a1, a2, a3, a4, a5, a6, a7⟩ := mA_iff.mp hA
  have e1 := zlt_iff (x := l) (y := 0) r1 rg0
  have e2 := zle_iff (x := l) (y := 2) r1 rg2
  have e3 := zeq_iff (x := k) (y := -1) r2 rgm1
  have e4 := zlt_iff (x := k) (y := 0) r2 rg0
  unfold f_Md_table tabq
  rw [zk_eq, ms30 h, if_pos rfl]
  by_cases c1 : l < 0
  · rw [if_pos (e1.mpr c1), if_pos (show l < 0 ∨ 2 < l from Or.inl c1)]
  by_cases c2 : ¬ l ≤ 2
  · rw [if_neg (fun q => c1 (e1.mp q)), if_neg (fun q => c2 (e2.mp q)), if_pos (show l < 0 ∨ 2 < l by omega)]
  have c2 := Decidable.not_not.mp c2
  have hl : l = 0 ∨ l = 1 ∨ l = 2 := by omega
  have hl' : l = -1 ∨ l = 0 ∨ l = 1 ∨ l = 2 := Or.inr hl
  obtain ⟨t1, t2⟩ := m_tables hA hB h4 hl
  rw [nT_lvT] at t1 t2
  rw [if_neg (fun q => c1 (e1.mp q)), if_pos (e2.mpr c2), if_neg (show ¬ (l < 0 ∨ 2 < l) by omega), zb2_of t1]
  by_cases c3 : k = -1
  · rw [if_pos (e3.mpr c3), if_pos c3]
  rw [if_neg (fun q => c3 (e3.mp q)), if_neg c3]
  by_cases c4 : k < 0
  · rw [if_pos (e4.mpr c4), if_pos c4]
  rw [if_neg (fun q => c4 (e4.mp q)), if_neg c4]
  obtain ⟨k, rfl⟩ : ∃ j : Nat, k = (j : Int) := ⟨k.toNat, by omega⟩
  simp only [Int.toNat_natCast]
  have e5 := zlt_iff (x := (k : Int)) (y := ((lvT l0 l1 l2 l).length : Int)) r2 (rgN (by omega))
  by_cases c5 : k < (lvT l0 l1 l2 l).length
  · obtain ⟨t, ht⟩ : ∃ t, (lvT l0 l1 l2 l)[k]? = some t := ⟨_, List.getElem?_eq_getElem c5⟩
    have htb : tbl mem l0 l1 l2 l (k : Int) = some t := by rw [tbl_lvT hl]; exact ht
    have hp := hB.tbl hS (by omega) htb
    rw [if_pos (e5.mpr (by omega)), ht]
    refine (ml_table h hG hB hl' r2 _ N zfu 0 0 0 (by omega) (zfu_gt hB.2.1) rfl rfl).trans ?_
    have hlen : ((cnt (lieB M l k) N : Nat) : Int) = t.length := by rw [← ent_len (M := M), hp.length_eq]
    rw [hlen, ← mxS_perm hp, m_filter hA hB hS hl' (by omega) htb, m_bound hA hB hS hl' (by omega) (Or.inl rfl) htb, m_bound hA hB hS hl' (by omega) (Or.inr rfl) htb]
    have z0 := zeq_iff (x := what) (y := 0) r3 rg0
    have z1 := zeq_iff (x := what) (y := 1) r3 rg1
    have z2 := zeq_iff (x := what) (y := 2) r3 rg2
    have z3 := zeq_iff (x := what) (y := 3) r3 (by unfold rg; omega)
    have z4 := zeq_iff (x := what) (y := 4) r3 (by unfold rg; omega)
    show (if zeq what 0 then some ((t.length : Int), M) else if zeq what 1 then some (flt t, M) else if zeq what 2 then some (hdK t, M) else if zeq what 3 then some (laK t, M) else if zeq what 4 then some (mxS t, M) else some (-2, M)) = some (tbq t what, M)
    unfold tbq
    by_cases d0 : what = 0
    · rw [if_pos (z0.mpr d0), if_pos d0]
    rw [if_neg (fun q => d0 (z0.mp q)), if_neg d0]
    by_cases d1 : what = 1
    · rw [if_pos (z1.mpr d1), if_pos d1]
    rw [if_neg (fun q => d1 (z1.mp q)), if_neg d1]
    by_cases d2 : what = 2
    · rw [if_pos (z2.mpr d2), if_pos d2]
    rw [if_neg (fun q => d2 (z2.mp q)), if_neg d2]
    by_cases d3 : what = 3
    · rw [if_pos (z3.mpr d3), if_pos d3]
    rw [if_neg (fun q => d3 (z3.mp q)), if_neg d3]
    by_cases d4 : what = 4
    · rw [if_pos (z4.mpr d4), if_pos d4]
    rw [if_neg (fun q => d4 (z4.mp q)), if_neg d4]
  · rw [if_neg (fun q => c5 (by have := e5.mp q; omega)), List.getElem?_eq_none (by omega)]
/-- what can be seen of a segment -/
def sgq (tl : Int) (us : List Int) (A : List En) (k what : Int) : Int := if k = -1 then (us.length : Int) else if k < 0 then -2 else match us[k.toNat]? with
  | none => -2
  | some u => if what = 0 then tl + k else if what = 1 then u else if what = 2 then ((live (tl + k) A).length : Int) else -2
theorem m_segment (hA : mA time sn bt seen pr tl us un M) (hB : mB N sn mem l0 l1 l2 M) (htl : 0 ≤ tl ∧ tl ≤ 90000) (hus : us.length ≤ 8) {k what : Int} (r2 : rg k) (r3 : rg what) : f_Md_segment 30 k what M = some (sgq tl us (allE mem l0 l1 l2) k what, M) := by
  obtain ⟨h, hG, a1, a2, a3, a4, a5, a6, a7⟩ := mA_iff.mp hA
  have e3 := zeq_iff (x := k) (y := -1) r2 rgm1
  have e4 := zlt_iff (x := k) (y := 0) r2 rg0
  have s1 : zsub (tl + us.length - 1) tl = us.length - 1 := by rw [zsub_eq (by omega) (by omega)]; omega
  have s2 : zadd ((us.length : Int) - 1) 1 = us.length := by rw [zadd_eq (by omega) (by omega)]; omega
  have e5 := zlt_iff (x := k) (y := (us.length : Int)) r2 (rgN (by omega))
  have z0 := zeq_iff (x := what) (y := 0) r3 rg0
  have z1 := zeq_iff (x := what) (y := 1) r3 rg1
  have z2 := zeq_iff (x := what) (y := 2) r3 rg2
  unfold f_Md_segment sgq
  by_cases c3 : k = -1
  · rw [if_pos c3]
    simp only [↓gI_b, ↓gR_b, ↓pI_b, ↓pZ_b, ↓pR_b, ↓ldI_b, ↓ldR_b, ↓stI_b, ↓stZ_b, ↓stR_b, zk_eq, sh_wI, sh_wR, rF_wI, iF_wR, ms30 h, true_and, and_true, and_self, ↓reduceIte, Int.toNat_natCast, Int.natCast_nonneg, Nat.reduceLT, Nat.reduceLeDiff, Nat.reduceEqDiff, ne_eq, not_false_eq_true, Nat.reduceAdd, reduceCtorEq, Int.reduceLT, Int.reduceLE, Int.reduceToNat, a6.1, a6.2.1, s1, s2, e3, eq_true c3]
  rw [if_neg c3]
  by_cases c4 : k < 0
  · rw [if_pos c4]
    simp only [↓gI_b, ↓gR_b, ↓pI_b, ↓pZ_b, ↓pR_b, ↓ldI_b, ↓ldR_b, ↓stI_b, ↓stZ_b, ↓stR_b, zk_eq, sh_wI, sh_wR, rF_wI, iF_wR, ms30 h, true_and, and_true, and_self, ↓reduceIte, Int.toNat_natCast, Int.natCast_nonneg, Nat.reduceLT, Nat.reduceLeDiff, Nat.reduceEqDiff, ne_eq, not_false_eq_true, Nat.reduceAdd, reduceCtorEq, Int.reduceLT, Int.reduceLE, Int.reduceToNat, a6.1, a6.2.1, s1, s2, e3, c3, e4, c4]
  rw [if_neg c4]
  obtain ⟨k, rfl⟩ : ∃ j : Nat, k = (j : Int) := ⟨k.toNat, by omega⟩
  simp only [Int.toNat_natCast]
  by_cases c5 : (k : Int) < us.length
  · obtain ⟨x, hx⟩ : ∃ t, us[k]? = some t := ⟨_, List.getElem?_eq_getElem (by omega)⟩
    have hu := a6.2.2 k x hx
    have s3 : zadd tl k = tl + k := zadd_eq (by omega) (by omega)
    have m1 : zrem (tl + k) 8 = (tl + k) % 8 := zrem_eq (by unfold rg; omega) (by unfold rg; omega) (by omega) (by omega)
    have m2 : 0 ≤ (tl + k) % 8 := by omega
    have m3 : (tl + k) % 8 < 4096 := by omega
    have m4 : ((tl + k) % 8).toNat < 8 := by omega
    have hlv := m_liveIn hA hB (g := tl + k) (by unfold rg; omega)
    rw [hx]
    by_cases d0 : what = 0
    · simp only [↓gI_b, ↓gR_b, ↓pI_b, ↓pZ_b, ↓pR_b, ↓ldI_b, ↓ldR_b, ↓stI_b, ↓stZ_b, ↓stR_b, zk_eq, sh_wI, sh_wR, rF_wI, iF_wR, ms30 h, true_and, and_true, and_self, ↓reduceIte, Int.toNat_natCast, Int.natCast_nonneg, Nat.reduceLT, Nat.reduceLeDiff, Nat.reduceEqDiff, ne_eq, not_false_eq_true, Nat.reduceAdd, reduceCtorEq, Int.reduceLT, Int.reduceLE, Int.reduceToNat, a6.1, a6.2.1, s1, s2, e3, c3, e4, c4, e5, c5, z0, eq_true d0, s3]
    by_cases d1 : what = 1
    · have d1' : ¬ ((1 : Int) = 0) := by decide
      subst d1
      have y0 : ¬ zeq 1 0 := by decide
      have y1 : zeq 1 1 := rfl
      simp only [↓gI_b, ↓gR_b, ↓pI_b, ↓pZ_b, ↓pR_b, ↓ldI_b, ↓ldR_b, ↓stI_b, ↓stZ_b, ↓stR_b, zk_eq, sh_wI, sh_wR, rF_wI, iF_wR, ms30 h, ms47 h, mr16 h, true_and, and_true, and_self, ↓reduceIte, Int.toNat_natCast, Int.natCast_nonneg, Nat.reduceLT, Nat.reduceLeDiff, Nat.reduceEqDiff, ne_eq, not_false_eq_true, Nat.reduceAdd, reduceCtorEq, Int.reduceLT, Int.reduceLE, Int.reduceToNat, a6.1, a6.2.1, s1, s2, e3, c3, e4, c4, e5, c5, y0, y1, d1', s3, m1, m2, m3, m4, hu]
    by_cases d2 : what = 2
    · subst d2
      have d1' : ¬ ((2 : Int) = 0) := by decide
      have d2' : ¬ ((2 : Int) = 1) := by decide
      have y0 : ¬ zeq 2 0 := by decide
      have y1 : ¬ zeq 2 1 := by decide
      have y2 : zeq 2 2 := rfl
      simp only [↓gI_b, ↓gR_b, ↓pI_b, ↓pZ_b, ↓pR_b, ↓ldI_b, ↓ldR_b, ↓stI_b, ↓stZ_b, ↓stR_b, zk_eq, sh_wI, sh_wR, rF_wI, iF_wR, ms30 h, true_and, and_true, and_self, ↓reduceIte, Int.toNat_natCast, Int.natCast_nonneg, Nat.reduceLT, Nat.reduceLeDiff, Nat.reduceEqDiff, ne_eq, not_false_eq_true, Nat.reduceAdd, reduceCtorEq, Int.reduceLT, Int.reduceLE, Int.reduceToNat, a6.1, a6.2.1, s1, s2, e3, c3, e4, c4, e5, c5, y0, y1, y2, d1', d2', s3, ↓zb2_of hlv]
    · simp only [↓gI_b, ↓gR_b, ↓pI_b, ↓pZ_b, ↓pR_b, ↓ldI_b, ↓ldR_b, ↓stI_b, ↓stZ_b, ↓stR_b, zk_eq, sh_wI, sh_wR, rF_wI, iF_wR, ms30 h, true_and, and_true, and_self, ↓reduceIte, Int.toNat_natCast, Int.natCast_nonneg, Nat.reduceLT, Nat.reduceLeDiff, Nat.reduceEqDiff, ne_eq, not_false_eq_true, Nat.reduceAdd, reduceCtorEq, Int.reduceLT, Int.reduceLE, Int.reduceToNat, a6.1, a6.2.1, s1, s2, e3, c3, e4, c4, e5, c5, z0, z1, z2, d0, d1, d2]
  · rw [List.getElem?_eq_none (by omega)]
    simp only [↓gI_b, ↓gR_b, ↓pI_b, ↓pZ_b, ↓pR_b, ↓ldI_b, ↓ldR_b, ↓stI_b, ↓stZ_b, ↓stR_b, zk_eq, sh_wI, sh_wR, rF_wI, iF_wR, ms30 h, true_and, and_true, and_self, ↓reduceIte, Int.toNat_natCast, Int.natCast_nonneg, Nat.reduceLT, Nat.reduceLeDiff, Nat.reduceEqDiff, ne_eq, not_false_eq_true, Nat.reduceAdd, reduceCtorEq, Int.reduceLT, Int.reduceLE, Int.reduceToNat, a6.1, a6.2.1, s1, s2, e3, c3, e4, c4, e5, c5]
/-- how many snapshots are taken -/
def nsn (seen : List Int) : Int := ((seen.filter (fun s => decide (0 ≤ s))).length : Int)
def lkq (mem : List En) (sn : Int) (un : List Un) (bt : List Bt) (seen : List Int) (what : Int) : Int := if what = 0 then (mem.length : Int) else if what = 1 then sn else if what = 2 then (un.length : Int) else if what = 3 then (bt.length : Int) else if what = 4 then nsn seen else -2
theorem m_look (hA : mA time sn bt seen pr tl us un M) (hB : mB N sn mem l0 l1 l2 M) {what : Int} (r3 : rg what) : f_Md_look 30 what M = some (lkq mem sn un bt seen what, M) := by
  obtain ⟨h, hG, a1, a2, a3, a4, a5, a6, a7⟩ := mA_iff.mp hA
  have hsz := hB.C.size hA (k := -1) rgm1
  have hlen : (lvE M N (-1)).length = mem.length := hB.2.2.2.2.2.2.1.length_eq.symm
  rw [hlen] at hsz
  have z0 := zeq_iff (x := what) (y := 0) r3 rg0
  have z1 := zeq_iff (x := what) (y := 1) r3 rg1
  have z2 := zeq_iff (x := what) (y := 2) r3 rg2
  have z3 := zeq_iff (x := what) (y := 3) r3 (by unfold rg; omega)
  have z4 := zeq_iff (x := what) (y := 4) r3 (by unfold rg; omega)
  unfold f_Md_look lkq
  by_cases d0 : what = 0
  · simp only [↓gI_b, ↓gR_b, ↓pI_b, ↓pZ_b, ↓pR_b, ↓ldI_b, ↓ldR_b, ↓stI_b, ↓stZ_b, ↓stR_b, zk_eq, sh_wI, sh_wR, rF_wI, iF_wR, ms30 h, true_and, and_true, and_self, ↓reduceIte, Int.toNat_natCast, Int.natCast_nonneg, Nat.reduceLT, Nat.reduceLeDiff, Nat.reduceEqDiff, ne_eq, not_false_eq_true, Nat.reduceAdd, reduceCtorEq, Int.reduceLT, Int.reduceLE, Int.reduceToNat, z0, eq_true d0, ↓zb2_of hsz]
  by_cases d1 : what = 1
  · rw [if_neg d0, if_pos d1]
    simp only [↓gI_b, ↓gR_b, ↓pI_b, ↓pZ_b, ↓pR_b, ↓ldI_b, ↓ldR_b, ↓stI_b, ↓stZ_b, ↓stR_b, zk_eq, sh_wI, sh_wR, rF_wI, iF_wR, ms30 h, true_and, and_true, and_self, ↓reduceIte, Int.toNat_natCast, Int.natCast_nonneg, Nat.reduceLT, Nat.reduceLeDiff, Nat.reduceEqDiff, ne_eq, not_false_eq_true, Nat.reduceAdd, reduceCtorEq, Int.reduceLT, Int.reduceLE, Int.reduceToNat, z0, d0, z1, eq_true d1, a2]
  by_cases d2 : what = 2
  · rw [if_neg d0, if_neg d1, if_pos d2]
    simp only [↓gI_b, ↓gR_b, ↓pI_b, ↓pZ_b, ↓pR_b, ↓ldI_b, ↓ldR_b, ↓stI_b, ↓stZ_b, ↓stR_b, zk_eq, sh_wI, sh_wR, rF_wI, iF_wR, ms30 h, true_and, and_true, and_self, ↓reduceIte, Int.toNat_natCast, Int.natCast_nonneg, Nat.reduceLT, Nat.reduceLeDiff, Nat.reduceEqDiff, ne_eq, not_false_eq_true, Nat.reduceAdd, reduceCtorEq, Int.reduceLT, Int.reduceLE, Int.reduceToNat, z0, d0, z1, d1, z2, eq_true d2, a7.1]
  by_cases d3 : what = 3
  · rw [if_neg d0, if_neg d1, if_neg d2, if_pos d3]
    simp only [↓gI_b, ↓gR_b, ↓pI_b, ↓pZ_b, ↓pR_b, ↓ldI_b, ↓ldR_b, ↓stI_b, ↓stZ_b, ↓stR_b, zk_eq, sh_wI, sh_wR, rF_wI, iF_wR, ms30 h, true_and, and_true, and_self, ↓reduceIte, Int.toNat_natCast, Int.natCast_nonneg, Nat.reduceLT, Nat.reduceLeDiff, Nat.reduceEqDiff, ne_eq, not_false_eq_true, Nat.reduceAdd, reduceCtorEq, Int.reduceLT, Int.reduceLE, Int.reduceToNat, z0, d0, z1, d1, z2, d2, z3, eq_true d3, a4.1]
  by_cases d4 : what = 4
  · rw [if_neg d0, if_neg d1, if_neg d2, if_neg d3, if_pos d4]
    obtain ⟨s0, s1, s2⟩ : (iF M 45 0 = 0 ∨ iF M 45 0 = 1) ∧ (iF M 45 1 = 0 ∨ iF M 45 1 = 1) ∧ (iF M 45 2 = 0 ∨ iF M 45 2 = 1) := ⟨(a5.2 0 (by decide)).1, (a5.2 1 (by decide)).1, (a5.2 2 (by decide)).1⟩
    have g0 := (a5.2 0 (by decide)).2
    have g1 := (a5.2 1 (by decide)).2
    have g2 := (a5.2 2 (by decide)).2
    have y0 : zeq 0 0 := rfl
    have y1 : ¬ zeq 1 0 := by decide
    have x0 : (1 : Int) ≠ 0 := by decide
    have xm : ¬ ((0 : Int) ≤ -1) := by decide
    unfold nsn
    rw [← a5.1]
    unfold sn3 sv
    rcases s0 with q0 | q0 <;> rcases s1 with q1 | q1 <;> rcases s2 with q2 | q2
    all_goals
      simp only [q0, q1, q2, true_implies] at g0 g1 g2
      simp only [↓gI_b, ↓gR_b, ↓pI_b, ↓pZ_b, ↓pR_b, ↓ldI_b, ↓ldR_b, ↓stI_b, ↓stZ_b, ↓stR_b, zk_eq, sh_wI, sh_wR, rF_wI, iF_wR, ms30 h, ms45 h, mr14 h, true_and, and_true, and_self, ↓reduceIte, Int.toNat_natCast, Int.natCast_nonneg, Nat.reduceLT, Nat.reduceLeDiff, Nat.reduceEqDiff, ne_eq, not_false_eq_true, Nat.reduceAdd, reduceCtorEq, Int.reduceLT, Int.reduceLE, Int.reduceToNat, z0, d0, z1, d1, z2, d2, z3, d3, z4, eq_true d4, q0, q1, q2, y0, y1, x0, xm, g0, g1, g2, List.filter_cons, List.filter_nil, decide_true, decide_false, List.length_cons, List.length_nil, Int.one_ne_zero, Bool.false_eq_true]
    all_goals rfl
  · rw [if_neg d0, if_neg d1, if_neg d2, if_neg d3, if_neg d4]
    simp only [↓gI_b, ↓gR_b, ↓pI_b, ↓pZ_b, ↓pR_b, ↓ldI_b, ↓ldR_b, ↓stI_b, ↓stZ_b, ↓stR_b, zk_eq, sh_wI, sh_wR, rF_wI, iF_wR, ms30 h, true_and, and_true, and_self, ↓reduceIte, Int.toNat_natCast, Int.natCast_nonneg, Nat.reduceLT, Nat.reduceLeDiff, Nat.reduceEqDiff, ne_eq, not_false_eq_true, Nat.reduceAdd, reduceCtorEq, Int.reduceLT, Int.reduceLE, Int.reduceToNat, z0, d0, z1, d1, z2, d2, z3, d3, z4, d4]
theorem m_probes (hA : mA time sn bt seen pr tl us un M) : f_Md_probes 30 M = some (pr, M) := by
  obtain ⟨h, hG, a1, a2, a3, a4, a5, a6, a7⟩ := mA_iff.mp hA
  unfold f_Md_probes
  simp only [↓gI_b, ↓gR_b, ↓pI_b, ↓pZ_b, ↓pR_b, ↓ldI_b, ↓ldR_b, ↓stI_b, ↓stZ_b, ↓stR_b, zk_eq, sh_wI, sh_wR, rF_wI, iF_wR, ms30 h, true_and, and_true, and_self, ↓reduceIte, Int.toNat_natCast, Int.natCast_nonneg, Nat.reduceLT, Nat.reduceLeDiff, Nat.reduceEqDiff, ne_eq, not_false_eq_true, Nat.reduceAdd, reduceCtorEq, Int.reduceLT, Int.reduceLE, Int.reduceToNat, a3]
theorem m_flushW (hA : mA time sn bt seen pr tl us un M) (hB : mB N sn mem l0 l1 l2 M) (h4 : l0.length ≤ 4) : ∃ Q, f_Md_flush 30 M = some ((mem.length : Int), Q) ∧ mFr M Q ∧ mA time sn bt seen pr tl us (if mem.isEmpty then un else []) Q ∧ mB N sn [] (fl0 time seen mem l0 l1 l2).1 (fl0 time seen mem l0 l1 l2).2.1 (fl0 time seen mem l0 l1 l2).2.2 Q := by
  have h := (mA_iff.mp hA).1
  have hsz := hB.C.size hA (k := -1) rgm1
  have hlen : (lvE M N (-1)).length = mem.length := hB.2.2.2.2.2.2.1.length_eq.symm
  rw [hlen] at hsz
  obtain ⟨Q, r1, r2⟩ := m_flush hA hB h4
  refine ⟨Q, ?_, r2⟩
  unfold f_Md_flush
  rw [zk_eq, ms30 h, if_pos rfl, zb2_of hsz, bnd_of r1]
theorem m_mergeW (hA : mA time sn bt seen pr tl us un M) (hB : mB N sn mem l0 l1 l2 M) {a : Int} (ha : rg a) :
    ((a < 0 ∨ 1 < a) → f_Md_merge 30 a M = some (-1, M)) ∧
    (a = 0 → l0.flatten.length = 0 → f_Md_merge 30 a M = some (-2, M)) ∧
    (a = 0 → l0.flatten.length ≠ 0 → ∃ Q, f_Md_merge 30 a M = some ((mgd time seen l0 l1 l2).2.2, Q) ∧ mFr M Q ∧ mA time sn bt seen pr tl us un Q ∧ mB N sn mem [] (mgd time seen l0 l1 l2).1 (mgd time seen l0 l1 l2).2.1 Q) ∧
    (a = 1 → l1.length = 0 → f_Md_merge 30 a M = some (-2, M)) ∧
    (a = 1 → l1.length ≠ 0 → ∃ Q, f_Md_merge 30 a M = some (((l1.length + l2.length : Nat) : Int) - ((mg1 time seen l1 l2).length : Int), Q) ∧ mFr M Q ∧ mA time sn bt seen pr tl us un Q ∧ mB N sn mem l0 [] (mg1 time seen l1 l2) Q) := by
  have h := (mA_iff.mp hA).1
  have s0 := hB.C.size hA (k := 0) rg0
  have s1 := hB.C.size hA (k := 1) rg1
  rw [← hB.l0.length_eq] at s0
  have hN2 := hB.2.1
  have hl0 : l0.flatten.length ≤ N := by rw [hB.l0.length_eq]; exact ent_le
  have hl1 : l1.length ≤ N := by rw [hB.2.2.2.2.2.2.2.1.length_eq]; exact ent_le
  rw [← hB.2.2.2.2.2.2.2.1.length_eq] at s1
  have e1 := zlt_iff (x := a) (y := 0) ha rg0
  have e2 := zle_iff (x := a) (y := 1) ha rg1
  have x0 : ¬ zlt 0 0 := by decide
  have x1 : ¬ zlt 1 0 := by decide
  have y0 : zle 0 1 := by decide
  have y1 : zle 1 1 := by decide
  have q0 := zeq_iff (x := (l0.flatten.length : Int)) (y := 0) (rgN (by omega)) rg0
  have q1 := zeq_iff (x := (l1.length : Int)) (y := 0) (rgN (by omega)) rg0
  unfold f_Md_merge
  rw [zk_eq, ms30 h, if_pos rfl]
  refine ⟨fun hc => ?_, fun h0 hc => ?_, fun h0 hc => ?_, fun h0 hc => ?_, fun h0 hc => ?_⟩
  · by_cases c : a < 0
    · rw [if_pos (e1.mpr c)]
    · rw [if_neg (fun q => c (e1.mp q)), if_neg (fun q => by have := e2.mp q; omega)]
  · subst h0
    rw [if_neg x0, if_pos y0, zb2_of s0, if_pos (q0.mpr (by omega))]
  · subst h0
    obtain ⟨Q, r1, r2⟩ := m_merge0 hA hB
    refine ⟨Q, ?_, r2⟩
    rw [if_neg x0, if_pos y0, zb2_of s0, if_neg (fun q => by have := q0.mp q; omega), zb2_of r1]
  · subst h0
    rw [if_neg x1, if_pos y1, zb2_of s1, if_pos (q1.mpr (by omega))]
  · subst h0
    obtain ⟨Q, r1, r2⟩ := m_merge1 hA hB
    refine ⟨Q, ?_, r2⟩
    rw [if_neg x1, if_pos y1, zb2_of s1, if_neg (fun q => by have := q1.mp q; omega), zb2_of r1]
end MD26
