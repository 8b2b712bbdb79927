section MD5
variable {M : zHp} {N : Nat}
theorem me_cg {M P : zHp} (h : ∀ q k, q ≠ 41 → iF P q k = iF M q k) (e : Nat) : me P e = me M e := by
  unfold me
  rw [h 34 _ (by decide), h 31 _ (by decide), h 32 _ (by decide), h 35 _ (by decide), h 33 _ (by decide), h 38 _ (by decide), h 39 _ (by decide)]
def loB (M : zHp) (N e : Nat) : Bool := (List.range N).all (fun f => !(!(iF M 40 f == 0) && (iF M 41 f == 0) && (iF M 31 f == iF M 31 e) && decide (iF M 32 f < iF M 32 e)))
theorem loB_iff {M : zHp} {N e : Nat} : loB M N e = true ↔ ∀ f, f < N → ¬ LoC M e f := by
  unfold loB LoC
  simp only [List.all_eq_true, List.mem_range, Bool.not_eq_true', Bool.and_eq_false_iff, beq_eq_false_iff_ne, Bool.not_eq_false', beq_iff_eq, decide_eq_false_iff_not, ne_eq]
  constructor
  · intro h f hf q
    rcases h f hf with ((c | c) | c) | c
    · exact q.1 c
    · exact c q.2.1
    · exact c q.2.2.1
    · exact c q.2.2.2
  · intro h f hf
    have := h f hf
    by_cases c1 : iF M 40 f = 0
    · exact Or.inl (Or.inl (Or.inl c1))
    by_cases c2 : iF M 41 f = 0
    · by_cases c3 : iF M 31 f = iF M 31 e
      · exact Or.inr (fun q => this ⟨c1, c2, c3, q⟩)
      · exact Or.inl (Or.inr c3)
    · exact Or.inl (Or.inl (Or.inr c2))
/-- one turn of the second pass -/
def gs (M : zHp) (N : Nat) (s : Int) (e : Nat) : Int := if iF M 40 e ≠ 0 ∧ iF M 32 e = s ∧ iF M 41 e = 0 ∧ goneB (iF M 30 0) (me M e) = true ∧ loB M N e = true then 1 else iF M 41 e
set_option maxRecDepth 10000 in
theorem ml_sift2 (h : mSh M) (hG : RG M) (hN : iF M 30 1 = (N : Int)) (hN2 : N ≤ 520) (hD : ∀ e, e < N → iF M 34 e = 0 ∨ iF M 34 e = 1) (hX : ∀ e, e < N → 0 ≤ iF M 35 e) (s : Int) (hs : rg s) (κ : zHp → Option (Int × zHp)) : ∀ (d n i : Nat) (P : zHp), i + d = N → d < n → Upd 41 (gs M N s) i M P → ∃ P2, f_Md_sift_L82 κ 30 s n (i : Int) P = κ P2 ∧ Upd 41 (gs M N s) N M P2 := by
  intro d
  induction d with
  | zero =>
    intro n i P hi hn hU
    obtain ⟨n, rfl⟩ : ∃ k, n = k + 1 := ⟨n - 1, by omega⟩
    unfold f_Md_sift_L82
    have hP := hU.1.mSh h
    have hNP : iF P 30 1 = (N : Int) := (hU.2.2.1 30 1 (by decide)).trans hN
    have e1 : zle (N : Int) (i : Int) := (zle_iff (rgN (by omega)) (rgN (by omega))).mpr (by omega)
    have hiN : i = N := by omega
    subst hiN
    refine ⟨P, ?_, hU⟩
    simp only [↓gI_b, ↓gR_b, ↓pI_b, ↓pZ_b, ↓pR_b, ↓ldI_b, ↓ldR_b, ↓stI_b, ↓stZ_b, ↓stR_b, zk_eq, sh_wI, sh_wR, rF_wI, iF_wR, ms30 hP, ms31 hP, ms32 hP, ms33 hP, ms34 hP, ms35 hP, ms36 hP, ms37 hP, ms38 hP, ms39 hP, ms40 hP, ms41 hP, ms42 hP, ms43 hP, ms44 hP, ms45 hP, ms46 hP, ms47 hP, ms48 hP, ms49 hP, ms50 hP, mr0 hP, mr1 hP, mr2 hP, mr3 hP, mr4 hP, mr5 hP, mr6 hP, mr7 hP, mr8 hP, mr9 hP, mr10 hP, mr11 hP, mr12 hP, mr13 hP, mr14 hP, mr15 hP, mr16 hP, mr17 hP, mr18 hP, mr19 hP, true_and, and_true, and_self, ↓reduceIte, Int.toNat_natCast, Int.natCast_nonneg, Nat.reduceLT, Nat.reduceLeDiff, Nat.reduceEqDiff, ne_eq, not_false_eq_true, Nat.reduceAdd, reduceCtorEq, Int.reduceLT, Int.reduceLE, Int.reduceToNat, hNP, e1]
  | succ d ih =>
    intro n i P hi hn hU
    obtain ⟨n, rfl⟩ : ∃ k, n = k + 1 := ⟨n - 1, by omega⟩
    unfold f_Md_sift_L82
    have hP := hU.1.mSh h
    have hGP := hU.2.1
    have hNP : iF P 30 1 = (N : Int) := (hU.2.2.1 30 1 (by decide)).trans hN
    have e1 : ¬ zle (N : Int) (i : Int) := fun q => by have := (zle_iff (rgN (by omega)) (rgN (by omega))).mp q; omega
    have e2 : (i : Int) < 4096 := by omega
    have e3 : i < 520 := by omega
    have e5 := zaddN (i := i) (by omega)
    have hU0 : ∀ q k, q ≠ 41 → iF P q k = iF M q k := fun q k hq => hU.at hq
    have f0 : iF P 40 i = iF M 40 i := hU.at (by decide)
    have f1 : iF P 32 i = iF M 32 i := hU.at (by decide)
    have f2 : iF P 41 i = iF M 41 i := hU.here
    have f3 : iF P 30 1 = iF M 30 1 := hU.at (by decide)
    have e6 := zeq_iff (hG 40 i) rg0
    have e7 := zeq_iff (hG 32 i) hs
    have e8 := zeq_iff (hG 41 i) rg0
    have hgn := m_gone hP hGP e3 (by rw [hU0 34 i (by decide)]; exact hD i (by omega)) (by rw [hU0 35 i (by decide)]; exact hX i (by omega))
    rw [me_cg hU0, hU0 30 0 (by decide)] at hgn
    obtain ⟨w, hw, hwi⟩ := m_low hP hGP hNP hN2 e3
    have z0 : zeq 0 0 := by decide
    have z1 : ¬ zeq 1 0 := by decide
    have hlo : iF M 32 i = s → ((∀ f, f < N → ¬ LoC P i f) ↔ loB M N i = true) := by
      intro hsi
      rw [loB_iff]
      have hcg : ∀ f, f < N → (LoC P i f ↔ LoC M i f) := by
        intro f hf
        unfold LoC
        rw [hU0 40 _ (by decide), hU0 31 _ (by decide), hU0 31 _ (by decide), hU0 32 _ (by decide), hU0 32 _ (by decide), hU.2.2.2 f]
        by_cases hfi : f < i
        · rw [if_pos hfi]
          unfold gs
          by_cases hfs : iF M 32 f = s
          · constructor
            · intro q; have := q.2.2.2; omega
            · intro q; have := q.2.2.2; omega
          · rw [if_neg (fun q => hfs q.2.1)]
        · rw [if_neg hfi]
      constructor
      · intro q f hf hc; exact q f hf ((hcg f hf).mpr hc)
      · intro q f hf hc; exact q f hf ((hcg f hf).mp hc)
    have skp : gs M N s i = iF M 41 i → ∃ P2, f_Md_sift_L82 κ 30 s n ((i + 1 : Nat) : Int) P = κ P2 ∧ Upd 41 (gs M N s) N M P2 := fun q => ih n (i + 1) P (by omega) (by omega) (hU.sk q.symm)
    by_cases c1 : iF M 40 i = 0
    · simp only [↓gI_b, ↓gR_b, ↓pI_b, ↓pZ_b, ↓pR_b, ↓ldI_b, ↓ldR_b, ↓stI_b, ↓stZ_b, ↓stR_b, zk_eq, sh_wI, sh_wR, rF_wI, iF_wR, ms30 hP, ms31 hP, ms32 hP, ms33 hP, ms34 hP, ms35 hP, ms36 hP, ms37 hP, ms38 hP, ms39 hP, ms40 hP, ms41 hP, ms42 hP, ms43 hP, ms44 hP, ms45 hP, ms46 hP, ms47 hP, ms48 hP, ms49 hP, ms50 hP, mr0 hP, mr1 hP, mr2 hP, mr3 hP, mr4 hP, mr5 hP, mr6 hP, mr7 hP, mr8 hP, mr9 hP, mr10 hP, mr11 hP, mr12 hP, mr13 hP, mr14 hP, mr15 hP, mr16 hP, mr17 hP, mr18 hP, mr19 hP, true_and, and_true, and_self, ↓reduceIte, Int.toNat_natCast, Int.natCast_nonneg, Nat.reduceLT, Nat.reduceLeDiff, Nat.reduceEqDiff, ne_eq, not_false_eq_true, Nat.reduceAdd, reduceCtorEq, Int.reduceLT, Int.reduceLE, Int.reduceToNat, hNP, e1, e2, e3, e5, f0, f1, f2, f3, e6, e7, e8, eq_true c1]
      exact skp (by unfold gs; rw [if_neg (fun q => q.1 c1)])
    by_cases c2 : ¬ iF M 32 i = s
    · simp only [↓gI_b, ↓gR_b, ↓pI_b, ↓pZ_b, ↓pR_b, ↓ldI_b, ↓ldR_b, ↓stI_b, ↓stZ_b, ↓stR_b, zk_eq, sh_wI, sh_wR, rF_wI, iF_wR, ms30 hP, ms31 hP, ms32 hP, ms33 hP, ms34 hP, ms35 hP, ms36 hP, ms37 hP, ms38 hP, ms39 hP, ms40 hP, ms41 hP, ms42 hP, ms43 hP, ms44 hP, ms45 hP, ms46 hP, ms47 hP, ms48 hP, ms49 hP, ms50 hP, mr0 hP, mr1 hP, mr2 hP, mr3 hP, mr4 hP, mr5 hP, mr6 hP, mr7 hP, mr8 hP, mr9 hP, mr10 hP, mr11 hP, mr12 hP, mr13 hP, mr14 hP, mr15 hP, mr16 hP, mr17 hP, mr18 hP, mr19 hP, true_and, and_true, and_self, ↓reduceIte, Int.toNat_natCast, Int.natCast_nonneg, Nat.reduceLT, Nat.reduceLeDiff, Nat.reduceEqDiff, ne_eq, not_false_eq_true, Nat.reduceAdd, reduceCtorEq, Int.reduceLT, Int.reduceLE, Int.reduceToNat, hNP, e1, e2, e3, e5, f0, f1, f2, f3, e6, e7, e8, c1, c2]
      exact skp (by unfold gs; rw [if_neg (fun q => c2 q.2.1)])
    have c2 := Decidable.not_not.mp c2
    by_cases c3 : ¬ iF M 41 i = 0
    · simp only [↓gI_b, ↓gR_b, ↓pI_b, ↓pZ_b, ↓pR_b, ↓ldI_b, ↓ldR_b, ↓stI_b, ↓stZ_b, ↓stR_b, zk_eq, sh_wI, sh_wR, rF_wI, iF_wR, ms30 hP, ms31 hP, ms32 hP, ms33 hP, ms34 hP, ms35 hP, ms36 hP, ms37 hP, ms38 hP, ms39 hP, ms40 hP, ms41 hP, ms42 hP, ms43 hP, ms44 hP, ms45 hP, ms46 hP, ms47 hP, ms48 hP, ms49 hP, ms50 hP, mr0 hP, mr1 hP, mr2 hP, mr3 hP, mr4 hP, mr5 hP, mr6 hP, mr7 hP, mr8 hP, mr9 hP, mr10 hP, mr11 hP, mr12 hP, mr13 hP, mr14 hP, mr15 hP, mr16 hP, mr17 hP, mr18 hP, mr19 hP, true_and, and_true, and_self, ↓reduceIte, Int.toNat_natCast, Int.natCast_nonneg, Nat.reduceLT, Nat.reduceLeDiff, Nat.reduceEqDiff, ne_eq, not_false_eq_true, Nat.reduceAdd, reduceCtorEq, Int.reduceLT, Int.reduceLE, Int.reduceToNat, hNP, e1, e2, e3, e5, f0, f1, f2, f3, e6, e7, e8, c1, eq_true c2, c3]
      exact skp (by unfold gs; rw [if_neg (fun q => c3 q.2.2.1)])
    have c3 := Decidable.not_not.mp c3
    by_cases c4 : ¬ goneB (iF M 30 0) (me M i) = true
    · rw [if_neg c4] at hgn
      simp only [↓gI_b, ↓gR_b, ↓pI_b, ↓pZ_b, ↓pR_b, ↓ldI_b, ↓ldR_b, ↓stI_b, ↓stZ_b, ↓stR_b, zk_eq, sh_wI, sh_wR, rF_wI, iF_wR, ms30 hP, ms31 hP, ms32 hP, ms33 hP, ms34 hP, ms35 hP, ms36 hP, ms37 hP, ms38 hP, ms39 hP, ms40 hP, ms41 hP, ms42 hP, ms43 hP, ms44 hP, ms45 hP, ms46 hP, ms47 hP, ms48 hP, ms49 hP, ms50 hP, mr0 hP, mr1 hP, mr2 hP, mr3 hP, mr4 hP, mr5 hP, mr6 hP, mr7 hP, mr8 hP, mr9 hP, mr10 hP, mr11 hP, mr12 hP, mr13 hP, mr14 hP, mr15 hP, mr16 hP, mr17 hP, mr18 hP, mr19 hP, true_and, and_true, and_self, ↓reduceIte, Int.toNat_natCast, Int.natCast_nonneg, Nat.reduceLT, Nat.reduceLeDiff, Nat.reduceEqDiff, ne_eq, not_false_eq_true, Nat.reduceAdd, reduceCtorEq, Int.reduceLT, Int.reduceLE, Int.reduceToNat, hNP, e1, e2, e3, e5, f0, f1, f2, f3, e6, e7, e8, c1, eq_true c2, eq_true c3, ↓zb2_of hgn, z0]
      exact skp (by unfold gs; rw [if_neg (fun q => c4 q.2.2.2.1)])
    have c4 := Decidable.not_not.mp c4
    rw [if_pos c4] at hgn
    rcases hwi with ⟨rfl, hno⟩ | ⟨rfl, hyes⟩
    · simp only [↓gI_b, ↓gR_b, ↓pI_b, ↓pZ_b, ↓pR_b, ↓ldI_b, ↓ldR_b, ↓stI_b, ↓stZ_b, ↓stR_b, zk_eq, sh_wI, sh_wR, rF_wI, iF_wR, ms30 hP, ms31 hP, ms32 hP, ms33 hP, ms34 hP, ms35 hP, ms36 hP, ms37 hP, ms38 hP, ms39 hP, ms40 hP, ms41 hP, ms42 hP, ms43 hP, ms44 hP, ms45 hP, ms46 hP, ms47 hP, ms48 hP, ms49 hP, ms50 hP, mr0 hP, mr1 hP, mr2 hP, mr3 hP, mr4 hP, mr5 hP, mr6 hP, mr7 hP, mr8 hP, mr9 hP, mr10 hP, mr11 hP, mr12 hP, mr13 hP, mr14 hP, mr15 hP, mr16 hP, mr17 hP, mr18 hP, mr19 hP, true_and, and_true, and_self, ↓reduceIte, Int.toNat_natCast, Int.natCast_nonneg, Nat.reduceLT, Nat.reduceLeDiff, Nat.reduceEqDiff, ne_eq, not_false_eq_true, Nat.reduceAdd, reduceCtorEq, Int.reduceLT, Int.reduceLE, Int.reduceToNat, hNP, e1, e2, e3, e5, f0, f1, f2, f3, e6, e7, e8, c1, eq_true c2, eq_true c3, ↓zb2_of hgn, ↓zb2_of hw, z1, or_true]
      exact ih n (i + 1) _ (by omega) (by omega) (hU.st (by decide) (by decide) (by rw [ms41 h]; exact e3) (by unfold gs; rw [if_pos ⟨c1, c2, c3, c4, (hlo c2).mp hno⟩]) rg1)
    · simp only [↓gI_b, ↓gR_b, ↓pI_b, ↓pZ_b, ↓pR_b, ↓ldI_b, ↓ldR_b, ↓stI_b, ↓stZ_b, ↓stR_b, zk_eq, sh_wI, sh_wR, rF_wI, iF_wR, ms30 hP, ms31 hP, ms32 hP, ms33 hP, ms34 hP, ms35 hP, ms36 hP, ms37 hP, ms38 hP, ms39 hP, ms40 hP, ms41 hP, ms42 hP, ms43 hP, ms44 hP, ms45 hP, ms46 hP, ms47 hP, ms48 hP, ms49 hP, ms50 hP, mr0 hP, mr1 hP, mr2 hP, mr3 hP, mr4 hP, mr5 hP, mr6 hP, mr7 hP, mr8 hP, mr9 hP, mr10 hP, mr11 hP, mr12 hP, mr13 hP, mr14 hP, mr15 hP, mr16 hP, mr17 hP, mr18 hP, mr19 hP, true_and, and_true, and_self, ↓reduceIte, Int.toNat_natCast, Int.natCast_nonneg, Nat.reduceLT, Nat.reduceLeDiff, Nat.reduceEqDiff, ne_eq, not_false_eq_true, Nat.reduceAdd, reduceCtorEq, Int.reduceLT, Int.reduceLE, Int.reduceToNat, hNP, e1, e2, e3, e5, f0, f1, f2, f3, e6, e7, e8, c1, eq_true c2, eq_true c3, ↓zb2_of hgn, ↓zb2_of hw, z0, z1]
      refine skp ?_
      unfold gs
      rw [if_neg]
      intro q
      obtain ⟨f, hf, hc⟩ := hyes
      exact (hlo c2).mpr q.2.2.2.2 f hf hc
theorem Upd.comp {r : Nat} {f g f2 : Nat → Int} {M P Q : zHp} (h1 : Upd r f N M P) (h2 : Upd r g N P Q) (hg : ∀ k, k < N → g k = f2 k) : Upd r f2 N M Q := by
  refine ⟨h1.1.tr h2.1, h2.2.1, fun q k hq => (h2.2.2.1 q k hq).trans (h1.2.2.1 q k hq), fun k => ?_⟩
  rw [h2.2.2.2 k]
  by_cases hk : k < N
  · rw [if_pos hk, if_pos hk, hg k hk]
  · rw [if_neg hk, if_neg hk, h1.2.2.2 k, if_neg hk]
theorem Upd.cg {r : Nat} {f g : Nat → Int} {M P : zHp} (h1 : Upd r f N M P) (hg : ∀ k, k < N → f k = g k) : Upd r g N M P := by
  refine ⟨h1.1, h1.2.1, h1.2.2.1, fun k => ?_⟩
  rw [h1.2.2.2 k]
  by_cases hk : k < N
  · rw [if_pos hk, if_pos hk, hg k hk]
  · rw [if_neg hk, if_neg hk]
theorem drp_iff {time : Int} {seen : List Int} {L : List En} {e : En} : drp time seen L e = true ↔ goneB time e = true ∧ ∀ f ∈ L, eK f = eK e → eS f < eS e → shd seen L f = false → goneB time f = true := by
  unfold drp
  simp only [Bool.and_eq_true, List.all_eq_true, Bool.or_eq_true, Bool.not_eq_true']
  constructor
  · rintro ⟨h1, h2⟩
    refine ⟨h1, fun f hf a b c => ?_⟩
    rcases h2 f hf with h | h
    · simp [a, b, c] at h
    · exact h
  · rintro ⟨h1, h2⟩
    refine ⟨h1, fun f hf => ?_⟩
    by_cases hc : eK f = eK e ∧ eS f < eS e ∧ shd seen L f = false
    · exact Or.inr (h2 f hf hc.1 hc.2.1 hc.2.2)
    · left
      cases hb : (eK f == eK e && decide (eS f < eS e) && !shd seen L f) with
      | false => rfl
      | true =>
        simp only [Bool.and_eq_true, beq_iff_eq, decide_eq_true_eq, Bool.not_eq_true'] at hb
        exact absurd ⟨hb.1.1, hb.1.2, hb.2⟩ hc
/-- what falls before the turn of serial s -/
def fs (M : zHp) (N : Nat) (s : Int) (e : Nat) : Int := if iF M 40 e ≠ 0 ∧ (shd (sn3 M) (chs M N) (me M e) = true ∨ (drp (iF M 30 0) (sn3 M) (chs M N) (me M e) = true ∧ iF M 32 e < s)) then 1 else 0
theorem fs01 (M : zHp) (N : Nat) (s : Int) (e : Nat) : fs M N s e = 0 ∨ fs M N s e = 1 := by
  unfold fs
  split
  · exact Or.inr rfl
  · exact Or.inl rfl
theorem fs_step {M P : zHp} {s : Int} (hU : Upd 41 (fs M N s) N M P) {e : Nat} (he : e < N) : gs P N s e = fs M N (s + 1) e := by
  have hU0 : ∀ q k, q ≠ 41 → iF P q k = iF M q k := fun q k hq => hU.at hq
  have h41 : ∀ f, f < N → iF P 41 f = fs M N s f := fun f hf => by rw [hU.2.2.2 f, if_pos hf]
  unfold gs
  rw [hU0 40 _ (by decide), hU0 32 _ (by decide), h41 e he, hU0 30 0 (by decide), me_cg hU0]
  by_cases c0 : iF M 40 e = 0
  · rw [if_neg (fun q => q.1 c0)]
    unfold fs
    rw [if_neg (fun q => q.1 c0), if_neg (fun q => q.1 c0)]
  by_cases c1 : shd (sn3 M) (chs M N) (me M e) = true
  · have h1 : fs M N s e = 1 := by unfold fs; rw [if_pos ⟨c0, Or.inl c1⟩]
    have h2 : fs M N (s + 1) e = 1 := by unfold fs; rw [if_pos ⟨c0, Or.inl c1⟩]
    rw [h1, h2, if_neg (fun q => by have := q.2.2.1; omega)]
  by_cases c2 : iF M 32 e = s
  · have h1 : fs M N s e = 0 := by
      unfold fs
      rw [if_neg]
      rintro ⟨-, q | q⟩
      · exact c1 q
      · omega
    have hlow : (∀ f, f < N → ¬ LoC P e f) ↔ ∀ x ∈ chs M N, eK x = eK (me M e) → eS x < eS (me M e) → shd (sn3 M) (chs M N) x = true ∨ drp (iF M 30 0) (sn3 M) (chs M N) x = true := by
      constructor
      · intro q x hx hk hs
        obtain ⟨f, hf, hc, rfl⟩ := mem_chs.mp hx
        rw [eK_me, eK_me] at hk
        rw [eS_me, eS_me] at hs
        have := q f hf
        unfold LoC at this
        rw [hU0 40 _ (by decide), hU0 31 _ (by decide), hU0 31 _ (by decide), hU0 32 _ (by decide), hU0 32 _ (by decide), h41 f hf] at this
        have h3 : fs M N s f ≠ 0 := fun z => this ⟨hc, z, hk, hs⟩
        unfold fs at h3
        split at h3
        · rename_i hh
          rcases hh.2 with r | r
          · exact Or.inl r
          · exact Or.inr r.1
        · exact absurd rfl h3
      · intro q f hf hc
        unfold LoC at hc
        rw [hU0 40 _ (by decide), hU0 31 _ (by decide), hU0 31 _ (by decide), hU0 32 _ (by decide), hU0 32 _ (by decide), h41 f hf] at hc
        have h3 := q (me M f) (mem_chs.mpr ⟨f, hf, hc.1, rfl⟩) (by rw [eK_me, eK_me]; exact hc.2.2.1) (by rw [eS_me, eS_me]; exact hc.2.2.2)
        have h4 : fs M N s f = 1 := by
          unfold fs
          rw [if_pos]
          refine ⟨hc.1, ?_⟩
          rcases h3 with r | r
          · exact Or.inl r
          · exact Or.inr ⟨r, by have := hc.2.2.2; omega⟩
        rw [h4] at hc
        exact absurd hc.2.1 (by decide)
    have hd : drp (iF M 30 0) (sn3 M) (chs M N) (me M e) = true ↔ goneB (iF M 30 0) (me M e) = true ∧ ∀ f, f < N → ¬ LoC P e f := by
      rw [hlow, drp_iff]
      constructor
      · rintro ⟨g1, g2⟩
        refine ⟨g1, fun x hx hk hs => ?_⟩
        cases hb : shd (sn3 M) (chs M N) x with
        | true => exact Or.inl rfl
        | false =>
          refine Or.inr (drp_iff.mpr ⟨g2 x hx hk hs hb, fun y hy hk2 hs2 hb2 => ?_⟩)
          exact g2 y hy (hk2.trans hk) (by omega) hb2
      · rintro ⟨g1, g2⟩
        refine ⟨g1, fun x hx hk hs hb => ?_⟩
        rcases g2 x hx hk hs with r | r
        · rw [hb] at r; cases r
        · exact (drp_iff.mp r).1
    rw [h1]
    by_cases c3 : drp (iF M 30 0) (sn3 M) (chs M N) (me M e) = true
    · have h3 := hd.mp c3
      rw [if_pos ⟨c0, c2, rfl, h3.1, loB_iff.mpr h3.2⟩]
      unfold fs
      rw [if_pos ⟨c0, Or.inr ⟨c3, by omega⟩⟩]
    · rw [if_neg (fun q => c3 (hd.mpr ⟨q.2.2.2.1, loB_iff.mp q.2.2.2.2⟩))]
      unfold fs
      rw [if_neg]
      rintro ⟨-, q | q⟩
      · exact c1 q
      · exact c3 q.1
  · rw [if_neg (fun q => c2 q.2.1)]
    unfold fs
    by_cases c3 : iF M 40 e ≠ 0 ∧ (shd (sn3 M) (chs M N) (me M e) = true ∨ drp (iF M 30 0) (sn3 M) (chs M N) (me M e) = true ∧ iF M 32 e < s)
    · rw [if_pos c3, if_pos]
      refine ⟨c3.1, ?_⟩
      rcases c3.2 with r | r
      · exact Or.inl r
      · exact Or.inr ⟨r.1, by omega⟩
    · rw [if_neg c3, if_neg]
      rintro ⟨q1, q | q⟩
      · exact c1 q
      · exact c3 ⟨q1, Or.inr ⟨q.1, by omega⟩⟩
set_option maxRecDepth 10000 in
theorem ml_sift2s (h : mSh M) (hG : RG M) (hN : iF M 30 1 = (N : Int)) (hN2 : N ≤ 520) (hD : ∀ e, e < N → iF M 34 e = 0 ∨ iF M 34 e = 1) (hX : ∀ e, e < N → 0 ≤ iF M 35 e) {T : Nat} (hT : iF M 30 4 = (T : Int)) (hT2 : T ≤ 520) (κ : zHp → Option (Int × zHp)) :
    ∀ (d n s : Nat) (P : zHp), s + d = T + 1 → d < n → Upd 41 (fs M N (s : Int)) N M P → ∃ P2, f_Md_sift_L67 κ 30 2 n (s : Int) P = κ P2 ∧ Upd 41 (fs M N ((T + 1 : Nat) : Int)) N M P2 := by
  intro d
  induction d with
  | zero =>
    intro n s P hi hn hU
    obtain ⟨n, rfl⟩ : ∃ k, n = k + 1 := ⟨n - 1, by omega⟩
    unfold f_Md_sift_L67
    have hP := hU.1.mSh h
    have f1 : iF P 30 4 = (T : Int) := (hU.at (by decide)).trans hT
    have e1 : zlt (T : Int) (s : Int) := (zlt_iff (rgN (by omega)) (rgN (by omega))).mpr (by omega)
    have hs : s = T + 1 := by omega
    subst hs
    refine ⟨P, ?_, hU⟩
    simp only [↓gI_b, ↓gR_b, ↓pI_b, ↓pZ_b, ↓pR_b, ↓ldI_b, ↓ldR_b, ↓stI_b, ↓stZ_b, ↓stR_b, zk_eq, sh_wI, sh_wR, rF_wI, iF_wR, ms30 hP, ms31 hP, ms32 hP, ms33 hP, ms34 hP, ms35 hP, ms36 hP, ms37 hP, ms38 hP, ms39 hP, ms40 hP, ms41 hP, ms42 hP, ms43 hP, ms44 hP, ms45 hP, ms46 hP, ms47 hP, ms48 hP, ms49 hP, ms50 hP, mr0 hP, mr1 hP, mr2 hP, mr3 hP, mr4 hP, mr5 hP, mr6 hP, mr7 hP, mr8 hP, mr9 hP, mr10 hP, mr11 hP, mr12 hP, mr13 hP, mr14 hP, mr15 hP, mr16 hP, mr17 hP, mr18 hP, mr19 hP, true_and, and_true, and_self, ↓reduceIte, Int.toNat_natCast, Int.natCast_nonneg, Nat.reduceLT, Nat.reduceLeDiff, Nat.reduceEqDiff, ne_eq, not_false_eq_true, Nat.reduceAdd, reduceCtorEq, Int.reduceLT, Int.reduceLE, Int.reduceToNat, f1, e1]
  | succ d ih =>
    intro n s P hi hn hU
    obtain ⟨n, rfl⟩ : ∃ k, n = k + 1 := ⟨n - 1, by omega⟩
    unfold f_Md_sift_L67
    have hP := hU.1.mSh h
    have f1 : iF P 30 4 = (T : Int) := (hU.at (by decide)).trans hT
    have e1 : ¬ zlt (T : Int) (s : Int) := fun q => by have := (zlt_iff (rgN (by omega)) (rgN (by omega))).mp q; omega
    have z2 : zeq 2 2 := rfl
    have e5 := zaddN (i := s) (by omega)
    obtain ⟨P2, h1, h2⟩ := ml_sift2 hP hU.2.1 ((hU.at (by decide)).trans hN) hN2 (fun e he => by rw [hU.at (by decide)]; exact hD e he) (fun e he => by rw [hU.at (by decide)]; exact hX e he) (s : Int) (rgN (by omega)) (fun M64 => f_Md_sift_L67 κ 30 2 n (zadd (s : Int) 1) M64) N zfu 0 P (by omega) (zfu_gt hN2) (Upd.rf hU.2.1)
    obtain ⟨P3, h3, h4⟩ := ih n (s + 1) P2 (by omega) (by omega) (hU.comp h2 (fun k hk => by rw [fs_step hU hk]; rfl))
    refine ⟨P3, ?_, h4⟩
    simp only [↓gI_b, ↓gR_b, ↓pI_b, ↓pZ_b, ↓pR_b, ↓ldI_b, ↓ldR_b, ↓stI_b, ↓stZ_b, ↓stR_b, zk_eq, sh_wI, sh_wR, rF_wI, iF_wR, ms30 hP, ms31 hP, ms32 hP, ms33 hP, ms34 hP, ms35 hP, ms36 hP, ms37 hP, ms38 hP, ms39 hP, ms40 hP, ms41 hP, ms42 hP, ms43 hP, ms44 hP, ms45 hP, ms46 hP, ms47 hP, ms48 hP, ms49 hP, ms50 hP, mr0 hP, mr1 hP, mr2 hP, mr3 hP, mr4 hP, mr5 hP, mr6 hP, mr7 hP, mr8 hP, mr9 hP, mr10 hP, mr11 hP, mr12 hP, mr13 hP, mr14 hP, mr15 hP, mr16 hP, mr17 hP, mr18 hP, mr19 hP, true_and, and_true, and_self, ↓reduceIte, Int.toNat_natCast, Int.natCast_nonneg, Nat.reduceLT, Nat.reduceLeDiff, Nat.reduceEqDiff, ne_eq, not_false_eq_true, Nat.reduceAdd, reduceCtorEq, Int.reduceLT, Int.reduceLE, Int.reduceToNat, f1, e1, z2]
    refine h1.trans ?_
    rw [e5]
    exact h3
theorem ml_sift2o (h : mSh M) (hG : RG M) {l : Int} (hl : rg l) (hl2 : l ≠ 2) (κ : zHp → Option (Int × zHp)) (n : Nat) (s : Int) : f_Md_sift_L67 κ 30 l (n + 1) s M = κ M := by
  unfold f_Md_sift_L67
  have z2 : ¬ zeq l 2 := fun q => hl2 ((zeq_iff hl rg2).mp q)
  by_cases c : zlt (iF M 30 4) s
  · simp only [↓gI_b, ↓gR_b, ↓pI_b, ↓pZ_b, ↓pR_b, ↓ldI_b, ↓ldR_b, ↓stI_b, ↓stZ_b, ↓stR_b, zk_eq, sh_wI, sh_wR, rF_wI, iF_wR, ms30 h, ms31 h, ms32 h, ms33 h, ms34 h, ms35 h, ms36 h, ms37 h, ms38 h, ms39 h, ms40 h, ms41 h, ms42 h, ms43 h, ms44 h, ms45 h, ms46 h, ms47 h, ms48 h, ms49 h, ms50 h, mr0 h, mr1 h, mr2 h, mr3 h, mr4 h, mr5 h, mr6 h, mr7 h, mr8 h, mr9 h, mr10 h, mr11 h, mr12 h, mr13 h, mr14 h, mr15 h, mr16 h, mr17 h, mr18 h, mr19 h, true_and, and_true, and_self, ↓reduceIte, Int.toNat_natCast, Int.natCast_nonneg, Nat.reduceLT, Nat.reduceLeDiff, Nat.reduceEqDiff, ne_eq, not_false_eq_true, Nat.reduceAdd, reduceCtorEq, Int.reduceLT, Int.reduceLE, Int.reduceToNat, c]
  · simp only [↓gI_b, ↓gR_b, ↓pI_b, ↓pZ_b, ↓pR_b, ↓ldI_b, ↓ldR_b, ↓stI_b, ↓stZ_b, ↓stR_b, zk_eq, sh_wI, sh_wR, rF_wI, iF_wR, ms30 h, ms31 h, ms32 h, ms33 h, ms34 h, ms35 h, ms36 h, ms37 h, ms38 h, ms39 h, ms40 h, ms41 h, ms42 h, ms43 h, ms44 h, ms45 h, ms46 h, ms47 h, ms48 h, ms49 h, ms50 h, mr0 h, mr1 h, mr2 h, mr3 h, mr4 h, mr5 h, mr6 h, mr7 h, mr8 h, mr9 h, mr10 h, mr11 h, mr12 h, mr13 h, mr14 h, mr15 h, mr16 h, mr17 h, mr18 h, mr19 h, true_and, and_true, and_self, ↓reduceIte, Int.toNat_natCast, Int.natCast_nonneg, Nat.reduceLT, Nat.reduceLeDiff, Nat.reduceEqDiff, ne_eq, not_false_eq_true, Nat.reduceAdd, reduceCtorEq, Int.reduceLT, Int.reduceLE, Int.reduceToNat, c, z2]
set_option maxRecDepth 10000 in
theorem ml_sift3 (h : mSh M) (hG : RG M) (hN : iF M 30 1 = (N : Int)) (hN2 : N ≤ 520) (l : Int) (hl : rg l) (κ : Int → zHp → Option (Int × zHp)) : ∀ (d n i : Nat) (v : Int) (P : zHp), i + d = N → d < n → Upd 36 (fun e => if iF M 40 e ≠ 0 then (if iF M 41 e ≠ 0 then 9 else l) else iF M 36 e) i M P → (v = ((cnt (fun e => !(iF M 40 e == 0) && !(iF M 41 e == 0)) i : Nat) : Int)) → ∃ w P2, f_Md_sift_L157 κ 30 l n v (i : Int) P = κ w P2 ∧ Upd 36 (fun e => if iF M 40 e ≠ 0 then (if iF M 41 e ≠ 0 then 9 else l) else iF M 36 e) N M P2 ∧ (w = ((cnt (fun e => !(iF M 40 e == 0) && !(iF M 41 e == 0)) N : Nat) : Int)) := by
  intro d
  induction d with
  | zero =>
    intro n i v P hi hn hU hv
    obtain ⟨n, rfl⟩ : ∃ k, n = k + 1 := ⟨n - 1, by omega⟩
    unfold f_Md_sift_L157
    have hP := hU.1.mSh h
    have hNP : iF P 30 1 = (N : Int) := (hU.2.2.1 30 1 (by decide)).trans hN
    have e1 : zle (N : Int) (i : Int) := (zle_iff (rgN (by omega)) (rgN (by omega))).mpr (by omega)
    have hiN : i = N := by omega
    subst hiN
    refine ⟨v, P, ?_, hU, hv⟩
    simp only [↓gI_b, ↓gR_b, ↓pI_b, ↓pZ_b, ↓pR_b, ↓ldI_b, ↓ldR_b, ↓stI_b, ↓stZ_b, ↓stR_b, zk_eq, sh_wI, sh_wR, rF_wI, iF_wR, ms30 hP, ms31 hP, ms32 hP, ms33 hP, ms34 hP, ms35 hP, ms36 hP, ms37 hP, ms38 hP, ms39 hP, ms40 hP, ms41 hP, ms42 hP, ms43 hP, ms44 hP, ms45 hP, ms46 hP, ms47 hP, ms48 hP, ms49 hP, ms50 hP, mr0 hP, mr1 hP, mr2 hP, mr3 hP, mr4 hP, mr5 hP, mr6 hP, mr7 hP, mr8 hP, mr9 hP, mr10 hP, mr11 hP, mr12 hP, mr13 hP, mr14 hP, mr15 hP, mr16 hP, mr17 hP, mr18 hP, mr19 hP, true_and, and_true, and_self, ↓reduceIte, Int.toNat_natCast, Int.natCast_nonneg, Nat.reduceLT, Nat.reduceLeDiff, Nat.reduceEqDiff, ne_eq, not_false_eq_true, Nat.reduceAdd, reduceCtorEq, Int.reduceLT, Int.reduceLE, Int.reduceToNat, hNP, e1]
  | succ d ih =>
    intro n i v P hi hn hU hv
    obtain ⟨n, rfl⟩ : ∃ k, n = k + 1 := ⟨n - 1, by omega⟩
    unfold f_Md_sift_L157
    have hP := hU.1.mSh h
    have hGP := hU.2.1
    have hNP : iF P 30 1 = (N : Int) := (hU.2.2.1 30 1 (by decide)).trans hN
    have e1 : ¬ zle (N : Int) (i : Int) := fun q => by have := (zle_iff (rgN (by omega)) (rgN (by omega))).mp q; omega
    have e2 : (i : Int) < 4096 := by omega
    have e3 : i < 520 := by omega
    have e5 := zaddN (i := i) (by omega)
    have f0 : iF P 40 i = iF M 40 i := hU.at (by decide)
    have f1 : iF P 41 i = iF M 41 i := hU.at (by decide)
    have f2 : iF P 36 i = iF M 36 i := hU.here
    have e6 := zeq_iff (hG 40 i) rg0
    have e7 := zeq_iff (hG 41 i) rg0
    by_cases c1 : iF M 40 i = 0
    · simp only [↓gI_b, ↓gR_b, ↓pI_b, ↓pZ_b, ↓pR_b, ↓ldI_b, ↓ldR_b, ↓stI_b, ↓stZ_b, ↓stR_b, zk_eq, sh_wI, sh_wR, rF_wI, iF_wR, ms30 hP, ms31 hP, ms32 hP, ms33 hP, ms34 hP, ms35 hP, ms36 hP, ms37 hP, ms38 hP, ms39 hP, ms40 hP, ms41 hP, ms42 hP, ms43 hP, ms44 hP, ms45 hP, ms46 hP, ms47 hP, ms48 hP, ms49 hP, ms50 hP, mr0 hP, mr1 hP, mr2 hP, mr3 hP, mr4 hP, mr5 hP, mr6 hP, mr7 hP, mr8 hP, mr9 hP, mr10 hP, mr11 hP, mr12 hP, mr13 hP, mr14 hP, mr15 hP, mr16 hP, mr17 hP, mr18 hP, mr19 hP, true_and, and_true, and_self, ↓reduceIte, Int.toNat_natCast, Int.natCast_nonneg, Nat.reduceLT, Nat.reduceLeDiff, Nat.reduceEqDiff, ne_eq, not_false_eq_true, Nat.reduceAdd, reduceCtorEq, Int.reduceLT, Int.reduceLE, Int.reduceToNat, hNP, e1, e2, e3, e5, f0, f1, f2, e6, e7, iF_wI_ne (show (41 : Nat) ≠ 36 by decide), eq_true c1]
      exact ih n (i + 1) v P (by omega) (by omega) (hU.sk (by simp [c1])) (by rw [hv]; exact cnt_sn (p := fun e => !(iF M 40 e == 0) && !(iF M 41 e == 0)) (by simp [c1]))
    by_cases c2 : iF M 41 i = 0
    · simp only [↓gI_b, ↓gR_b, ↓pI_b, ↓pZ_b, ↓pR_b, ↓ldI_b, ↓ldR_b, ↓stI_b, ↓stZ_b, ↓stR_b, zk_eq, sh_wI, sh_wR, rF_wI, iF_wR, ms30 hP, ms31 hP, ms32 hP, ms33 hP, ms34 hP, ms35 hP, ms36 hP, ms37 hP, ms38 hP, ms39 hP, ms40 hP, ms41 hP, ms42 hP, ms43 hP, ms44 hP, ms45 hP, ms46 hP, ms47 hP, ms48 hP, ms49 hP, ms50 hP, mr0 hP, mr1 hP, mr2 hP, mr3 hP, mr4 hP, mr5 hP, mr6 hP, mr7 hP, mr8 hP, mr9 hP, mr10 hP, mr11 hP, mr12 hP, mr13 hP, mr14 hP, mr15 hP, mr16 hP, mr17 hP, mr18 hP, mr19 hP, true_and, and_true, and_self, ↓reduceIte, Int.toNat_natCast, Int.natCast_nonneg, Nat.reduceLT, Nat.reduceLeDiff, Nat.reduceEqDiff, ne_eq, not_false_eq_true, Nat.reduceAdd, reduceCtorEq, Int.reduceLT, Int.reduceLE, Int.reduceToNat, hNP, e1, e2, e3, e5, f0, f1, f2, e6, e7, iF_wI_ne (show (41 : Nat) ≠ 36 by decide), c1, eq_true c2]
      exact ih n (i + 1) v _ (by omega) (by omega) (hU.st (by decide) (by decide) (by rw [ms36 h]; exact e3) (by simp [c1, c2]) hl) (by rw [hv]; exact cnt_sn (p := fun e => !(iF M 40 e == 0) && !(iF M 41 e == 0)) (by simp [c2]))
    · simp only [↓gI_b, ↓gR_b, ↓pI_b, ↓pZ_b, ↓pR_b, ↓ldI_b, ↓ldR_b, ↓stI_b, ↓stZ_b, ↓stR_b, zk_eq, sh_wI, sh_wR, rF_wI, iF_wR, ms30 hP, ms31 hP, ms32 hP, ms33 hP, ms34 hP, ms35 hP, ms36 hP, ms37 hP, ms38 hP, ms39 hP, ms40 hP, ms41 hP, ms42 hP, ms43 hP, ms44 hP, ms45 hP, ms46 hP, ms47 hP, ms48 hP, ms49 hP, ms50 hP, mr0 hP, mr1 hP, mr2 hP, mr3 hP, mr4 hP, mr5 hP, mr6 hP, mr7 hP, mr8 hP, mr9 hP, mr10 hP, mr11 hP, mr12 hP, mr13 hP, mr14 hP, mr15 hP, mr16 hP, mr17 hP, mr18 hP, mr19 hP, true_and, and_true, and_self, ↓reduceIte, Int.toNat_natCast, Int.natCast_nonneg, Nat.reduceLT, Nat.reduceLeDiff, Nat.reduceEqDiff, ne_eq, not_false_eq_true, Nat.reduceAdd, reduceCtorEq, Int.reduceLT, Int.reduceLE, Int.reduceToNat, hNP, e1, e2, e3, e5, f0, f1, f2, e6, e7, iF_wI_ne (show (41 : Nat) ≠ 36 by decide), c1, c2]
      exact ih n (i + 1) _ _ (by omega) (by omega) (hU.st (by decide) (by decide) (by rw [ms36 h]; exact e3) (by simp [c1, c2]) rg9) (by rw [hv]; exact cnt_st (p := fun e => !(iF M 40 e == 0) && !(iF M 41 e == 0)) (by simp [c1, c2]) (by omega))
/-- sift: what is left goes to level l, the rest to 9; how many fell -/
def SfR (M : zHp) (N : Nat) (l : Int) (Q : zHp) (n : Int) : Prop := mFr M Q ∧ RG Q ∧ (∀ q k, q ≠ 36 → q ≠ 41 → iF Q q k = iF M q k) ∧
  (∀ e, iF Q 36 e = if e < N ∧ iF M 40 e ≠ 0 then (if kp (decide (l = 2)) (iF M 30 0) (sn3 M) (chs M N) (me M e) = true then l else 9) else iF M 36 e) ∧
  n = ((cnt (fun e => !(iF M 40 e == 0) && !kp (decide (l = 2)) (iF M 30 0) (sn3 M) (chs M N) (me M e)) N : Nat) : Int)
theorem cnt_cg {p q : Nat → Bool} {i : Nat} (h : ∀ k, k < i → p k = q k) : cnt p i = cnt q i := by
  unfold cnt
  congr 1
  exact List.filter_congr (fun x hx => h x (List.mem_range.mp hx))
theorem m_sift (h : mSh M) (hG : RG M) (hN : iF M 30 1 = (N : Int)) (hN2 : N ≤ 520) (hS : ∀ e, e < N → 1 ≤ iF M 32 e) (hD : ∀ e, e < N → iF M 34 e = 0 ∨ iF M 34 e = 1) (hX : ∀ e, e < N → 0 ≤ iF M 35 e) {T : Nat} (hT : iF M 30 4 = (T : Int)) (hT2 : T ≤ 520) (hC : ∀ e, e < N → iF M 40 e ≠ 0 → iF M 32 e ≤ T) {l : Int} (hl : rg l) :
    ∃ n Q, f_Md_sift 30 l M = some (n, Q) ∧ SfR M N l Q n := by
  unfold f_Md_sift
  obtain ⟨P1, h1, hU1⟩ := ml_sift1 h hG hN hN2 (fun e he => by have := hS e he; omega) (fun M29 => f_Md_sift_L67 (fun M65 => f_Md_sift_L157 (fun v95 M96 => some (v95, M96)) 30 l zfu 0 0 M65) 30 l zfu 1 M29) N zfu 0 M (by omega) (zfu_gt hN2) (Upd.rf hG)
  -- the second pass
  have h2 : ∃ P2, f_Md_sift_L67 (fun M65 => f_Md_sift_L157 (fun v95 M96 => some (v95, M96)) 30 l zfu 0 0 M65) 30 l zfu 1 P1 = f_Md_sift_L157 (fun v95 M96 => some (v95, M96)) 30 l zfu 0 0 P2 ∧ Upd 41 (fun e => if iF M 40 e ≠ 0 ∧ kp (decide (l = 2)) (iF M 30 0) (sn3 M) (chs M N) (me M e) = false then 1 else 0) N M P2 := by
    by_cases hl2 : l = 2
    · subst hl2
      obtain ⟨P2, h2, hU2⟩ := ml_sift2s h hG hN hN2 hD hX hT hT2 (fun M65 => f_Md_sift_L157 (fun v95 M96 => some (v95, M96)) 30 2 zfu 0 0 M65) T zfu 1 P1 (by omega) (zfu_gt hT2) (hU1.cg (fun k hk => by
        unfold fa1 fs
        by_cases c : iF M 40 k ≠ 0 ∧ shd (sn3 M) (chs M N) (me M k) = true
        · rw [if_pos c, if_pos ⟨c.1, Or.inl c.2⟩]
        · rw [if_neg c, if_neg]
          rintro ⟨q1, q | q⟩
          · exact c ⟨q1, q⟩
          · have := hS k hk
            have h3 := q.2
            have : ((1 : Nat) : Int) = 1 := rfl
            omega))
      refine ⟨P2, h2, hU2.cg (fun k hk => ?_)⟩
      unfold fs kp
      by_cases c : iF M 40 k = 0
      · rw [if_neg (fun q => q.1 c), if_neg (fun q => q.1 c)]
      · have := hC k hk c
        by_cases c1 : shd (sn3 M) (chs M N) (me M k) = true
        · rw [if_pos ⟨c, Or.inl c1⟩, if_pos ⟨c, by simp [c1]⟩]
        · by_cases c2 : drp (iF M 30 0) (sn3 M) (chs M N) (me M k) = true
          · rw [if_pos ⟨c, Or.inr ⟨c2, by omega⟩⟩, if_pos ⟨c, by simp [c2]⟩]
          · rw [if_neg, if_neg]
            · intro q
              have := q.2
              simp [c1, c2] at this
            · rintro ⟨-, q | q⟩
              · exact c1 q
              · exact c2 q.1
    · refine ⟨P1, ?_, hU1.cg (fun k hk => ?_)⟩
      · exact ml_sift2o (hU1.1.mSh h) hU1.2.1 hl hl2 _ 599 1
      · unfold fa1 kp
        by_cases c : iF M 40 k ≠ 0 ∧ shd (sn3 M) (chs M N) (me M k) = true
        · rw [if_pos c, if_pos ⟨c.1, by simp [c.2]⟩]
        · rw [if_neg c, if_neg]
          intro q
          refine c ⟨q.1, ?_⟩
          have := q.2
          simpa [hl2] using this
  obtain ⟨P2, h2, hU2⟩ := h2
  obtain ⟨w, P3, h3, hU3, hw⟩ := ml_sift3 (hU2.1.mSh h) hU2.2.1 ((hU2.at (by decide)).trans hN) hN2 l hl (fun v95 M96 => some (v95, M96)) N zfu 0 0 P2 (by omega) (zfu_gt hN2) (Upd.rf hU2.2.1) rfl
  rw [zk_eq, ms30 h]
  rw [if_pos rfl]
  have h41 : ∀ e, e < N → (iF P2 41 e ≠ 0 ↔ iF M 40 e ≠ 0 ∧ kp (decide (l = 2)) (iF M 30 0) (sn3 M) (chs M N) (me M e) = false) := by
    intro e he
    rw [hU2.2.2.2 e, if_pos he]
    dsimp only
    by_cases c : iF M 40 e ≠ 0 ∧ kp (decide (l = 2)) (iF M 30 0) (sn3 M) (chs M N) (me M e) = false
    · rw [if_pos c]; simp [c]
    · rw [if_neg c]; simp; intro q; cases hb : kp (decide (l = 2)) (iF M 30 0) (sn3 M) (chs M N) (me M e) with
      | true => rfl
      | false => exact absurd ⟨q, hb⟩ c
  refine ⟨w, P3, h1.trans (h2.trans h3), hU2.1.tr hU3.1, hU3.2.1, fun q k h36 h41 => (hU3.2.2.1 q k h36).trans (hU2.2.2.1 q k h41), fun e => ?_, ?_⟩
  · rw [hU3.2.2.2 e]
    by_cases he : e < N
    · rw [if_pos he]
      dsimp only
      rw [hU2.at (q := 40) (by decide), hU2.at (q := 36) (by decide)]
      by_cases c : iF M 40 e = 0
      · rw [if_neg (by simp [c]), if_neg (fun q => q.2 c)]
      · rw [if_pos c, if_pos (show e < N ∧ iF M 40 e ≠ 0 from ⟨he, c⟩)]
        cases hb : kp (decide (l = 2)) (iF M 30 0) (sn3 M) (chs M N) (me M e) with
        | true => rw [if_neg (fun q => by have := ((h41 e he).mp q).2; rw [hb] at this; cases this)]; rfl
        | false => rw [if_pos ((h41 e he).mpr ⟨c, hb⟩)]; rfl
    · rw [if_neg he, if_neg (fun q => he q.1), hU2.at (q := 36) (by decide)]
  · rw [hw]
    congr 1
    apply cnt_cg
    intro k hk
    rw [hU2.at (q := 40) (by decide)]
    have := h41 k hk
    by_cases c : iF M 40 k = 0
    · simp [c]
    · cases hb : kp (decide (l = 2)) (iF M 30 0) (sn3 M) (chs M N) (me M k) with
      | true =>
        have h0 : iF P2 41 k = 0 := Decidable.byContradiction (fun q => by have := (this.mp q).2; rw [hb] at this; cases this)
        simp [c, h0]
      | false =>
        have h0 := this.mpr ⟨c, hb⟩
        simp [c, h0]
end MD5
