section MD4
variable {M : zHp} {N : Nat}
/-- reads of the places that a loop doesn't write -/
theorem Upd.at {r : Nat} {f : Nat → Int} {i : Nat} {M P : zHp} (h : Upd r f i M P) {q k : Nat} (hq : q ≠ r) : iF P q k = iF M q k := h.2.2.1 q k hq
theorem Upd.here {r : Nat} {f : Nat → Int} {i : Nat} {M P : zHp} (h : Upd r f i M P) : iF P r i = iF M r i := by rw [h.2.2.2, if_neg (by omega)]
theorem iF_wI_ne {M : zHp} {r k : Nat} {x : Int} {q j : Nat} (h : q ≠ r) : iF (wI M r k x) q j = iF M q j := by rw [iF_wI, if_neg (fun c => h c.1)]
set_option maxRecDepth 10000 in
theorem ml_choose (h : mSh M) (hG : RG M) (hN : iF M 30 1 = (N : Int)) (hN2 : N ≤ 520) (a1 a2 : Int) (ha : rg a1) (hb : rg a2) (κ : zHp → Option (zHp)) : ∀ (d n i : Nat) (P : zHp), i + d = N → d < n → Upd 40 (fun e => if iF M 36 e = a1 ∨ iF M 36 e = a2 then 1 else 0) i M P → ∃ P2, f_Md_choose_L2 κ 30 a1 a2 n (i : Int) P = κ P2 ∧ Upd 40 (fun e => if iF M 36 e = a1 ∨ iF M 36 e = a2 then 1 else 0) N M P2 := by
  intro d
  induction d with
  | zero =>
    intro n i P hi hn hU
    obtain ⟨n, rfl⟩ : ∃ k, n = k + 1 := ⟨n - 1, by omega⟩
    unfold f_Md_choose_L2
    have hP := hU.1.mSh h
    have hNP : iF P 30 1 = (N : Int) := (hU.2.2.1 30 1 (by decide)).trans hN
    have e1 : zle (N : Int) (i : Int) := (zle_iff (rgN (by omega)) (rgN (by omega))).mpr (by omega)
    have hiN : i = N := by omega
    subst hiN
    refine ⟨P, ?_, hU⟩
    simp only [↓gI_b, ↓gR_b, ↓pI_b, ↓pZ_b, ↓pR_b, ↓ldI_b, ↓ldR_b, ↓stI_b, ↓stZ_b, ↓stR_b, zk_eq, sh_wI, sh_wR, rF_wI, iF_wR, ms30 hP, ms31 hP, ms32 hP, ms33 hP, ms34 hP, ms35 hP, ms36 hP, ms37 hP, ms38 hP, ms39 hP, ms40 hP, ms41 hP, ms42 hP, ms43 hP, ms44 hP, ms45 hP, ms46 hP, ms47 hP, ms48 hP, ms49 hP, ms50 hP, mr0 hP, mr1 hP, mr2 hP, mr3 hP, mr4 hP, mr5 hP, mr6 hP, mr7 hP, mr8 hP, mr9 hP, mr10 hP, mr11 hP, mr12 hP, mr13 hP, mr14 hP, mr15 hP, mr16 hP, mr17 hP, mr18 hP, mr19 hP, true_and, and_true, and_self, ↓reduceIte, Int.toNat_natCast, Int.natCast_nonneg, Nat.reduceLT, Nat.reduceLeDiff, Nat.reduceEqDiff, ne_eq, not_false_eq_true, Nat.reduceAdd, reduceCtorEq, Int.reduceLT, Int.reduceLE, Int.reduceToNat, hNP, e1]
  | succ d ih =>
    intro n i P hi hn hU
    obtain ⟨n, rfl⟩ : ∃ k, n = k + 1 := ⟨n - 1, by omega⟩
    unfold f_Md_choose_L2
    have hP := hU.1.mSh h
    have hGP := hU.2.1
    have hNP : iF P 30 1 = (N : Int) := (hU.2.2.1 30 1 (by decide)).trans hN
    have e1 : ¬ zle (N : Int) (i : Int) := fun q => by have := (zle_iff (rgN (by omega)) (rgN (by omega))).mp q; omega
    have e2 : (i : Int) < 4096 := by omega
    have e3 : i < 520 := by omega
    have e5 := zaddN (i := i) (by omega)
    have f1 : iF P 36 i = iF M 36 i := hU.at (by decide)
    have e6 := zeq_iff (hG 36 i) ha
    have e7 := zeq_iff (hG 36 i) hb
    by_cases c1 : iF M 36 i = a1
    · simp only [↓gI_b, ↓gR_b, ↓pI_b, ↓pZ_b, ↓pR_b, ↓ldI_b, ↓ldR_b, ↓stI_b, ↓stZ_b, ↓stR_b, zk_eq, sh_wI, sh_wR, rF_wI, iF_wR, ms30 hP, ms31 hP, ms32 hP, ms33 hP, ms34 hP, ms35 hP, ms36 hP, ms37 hP, ms38 hP, ms39 hP, ms40 hP, ms41 hP, ms42 hP, ms43 hP, ms44 hP, ms45 hP, ms46 hP, ms47 hP, ms48 hP, ms49 hP, ms50 hP, mr0 hP, mr1 hP, mr2 hP, mr3 hP, mr4 hP, mr5 hP, mr6 hP, mr7 hP, mr8 hP, mr9 hP, mr10 hP, mr11 hP, mr12 hP, mr13 hP, mr14 hP, mr15 hP, mr16 hP, mr17 hP, mr18 hP, mr19 hP, true_and, and_true, and_self, ↓reduceIte, Int.toNat_natCast, Int.natCast_nonneg, Nat.reduceLT, Nat.reduceLeDiff, Nat.reduceEqDiff, ne_eq, not_false_eq_true, Nat.reduceAdd, reduceCtorEq, Int.reduceLT, Int.reduceLE, Int.reduceToNat, hNP, e1, e2, e3, e5, f1, e6, eq_true c1, or_true]
      exact ih n (i + 1) _ (by omega) (by omega) (hU.st (by decide) (by decide) (by rw [ms40 h]; exact e3) (by simp [c1]) rg1)
    by_cases c2 : iF M 36 i = a2
    · simp only [↓gI_b, ↓gR_b, ↓pI_b, ↓pZ_b, ↓pR_b, ↓ldI_b, ↓ldR_b, ↓stI_b, ↓stZ_b, ↓stR_b, zk_eq, sh_wI, sh_wR, rF_wI, iF_wR, ms30 hP, ms31 hP, ms32 hP, ms33 hP, ms34 hP, ms35 hP, ms36 hP, ms37 hP, ms38 hP, ms39 hP, ms40 hP, ms41 hP, ms42 hP, ms43 hP, ms44 hP, ms45 hP, ms46 hP, ms47 hP, ms48 hP, ms49 hP, ms50 hP, mr0 hP, mr1 hP, mr2 hP, mr3 hP, mr4 hP, mr5 hP, mr6 hP, mr7 hP, mr8 hP, mr9 hP, mr10 hP, mr11 hP, mr12 hP, mr13 hP, mr14 hP, mr15 hP, mr16 hP, mr17 hP, mr18 hP, mr19 hP, true_and, and_true, and_self, ↓reduceIte, Int.toNat_natCast, Int.natCast_nonneg, Nat.reduceLT, Nat.reduceLeDiff, Nat.reduceEqDiff, ne_eq, not_false_eq_true, Nat.reduceAdd, reduceCtorEq, Int.reduceLT, Int.reduceLE, Int.reduceToNat, hNP, e1, e2, e3, e5, f1, e6, e7, c1, eq_true c2, or_true]
      exact ih n (i + 1) _ (by omega) (by omega) (hU.st (by decide) (by decide) (by rw [ms40 h]; exact e3) (by simp [c2]) rg1)
    · simp only [↓gI_b, ↓gR_b, ↓pI_b, ↓pZ_b, ↓pR_b, ↓ldI_b, ↓ldR_b, ↓stI_b, ↓stZ_b, ↓stR_b, zk_eq, sh_wI, sh_wR, rF_wI, iF_wR, ms30 hP, ms31 hP, ms32 hP, ms33 hP, ms34 hP, ms35 hP, ms36 hP, ms37 hP, ms38 hP, ms39 hP, ms40 hP, ms41 hP, ms42 hP, ms43 hP, ms44 hP, ms45 hP, ms46 hP, ms47 hP, ms48 hP, ms49 hP, ms50 hP, mr0 hP, mr1 hP, mr2 hP, mr3 hP, mr4 hP, mr5 hP, mr6 hP, mr7 hP, mr8 hP, mr9 hP, mr10 hP, mr11 hP, mr12 hP, mr13 hP, mr14 hP, mr15 hP, mr16 hP, mr17 hP, mr18 hP, mr19 hP, true_and, and_true, and_self, ↓reduceIte, Int.toNat_natCast, Int.natCast_nonneg, Nat.reduceLT, Nat.reduceLeDiff, Nat.reduceEqDiff, ne_eq, not_false_eq_true, Nat.reduceAdd, reduceCtorEq, Int.reduceLT, Int.reduceLE, Int.reduceToNat, hNP, e1, e2, e3, e5, f1, e6, e7, c1, c2, true_or]
      exact ih n (i + 1) _ (by omega) (by omega) (hU.st (by decide) (by decide) (by rw [ms40 h]; exact e3) (by simp [c1, c2]) rg0)
theorem m_choose (h : mSh M) (hG : RG M) (hN : iF M 30 1 = (N : Int)) (hN2 : N ≤ 520) {a1 a2 : Int} (ha : rg a1) (hb : rg a2) : ∃ P, f_Md_choose 30 a1 a2 M = some P ∧ Upd 40 (fun e => if iF M 36 e = a1 ∨ iF M 36 e = a2 then 1 else 0) N M P := by
  unfold f_Md_choose
  obtain ⟨P, h1, h2⟩ := ml_choose h hG hN hN2 a1 a2 ha hb (fun M10 => some M10) N zfu 0 M (by omega) (zfu_gt hN2) (Upd.rf hG)
  rw [zk_eq, ms30 h]
  rw [if_pos rfl]
  exact ⟨P, h1, h2⟩
/-- what the first pass of sift drops -/
def Sh1 (M : zHp) (N e : Nat) : Prop := ∃ f, f < N ∧ AbC M e f ∧ (∀ g, g < N → AbC M e g → iF M 32 f ≤ iF M 32 g) ∧ ∀ s, s < 3 → ¬ PtC M e f s
theorem AbC.cg {M P : zHp} (h : ∀ q k, q ≠ 41 → iF P q k = iF M q k) (e f : Nat) : AbC P e f ↔ AbC M e f := by
  unfold AbC
  rw [h 40 _ (by decide), h 31 _ (by decide), h 31 _ (by decide), h 32 _ (by decide), h 32 _ (by decide)]
theorem PtC.cg {M P : zHp} (h : ∀ q k, q ≠ 41 → iF P q k = iF M q k) (a b s : Nat) : PtC P a b s ↔ PtC M a b s := by
  unfold PtC
  rw [h 45 _ (by decide), h 46 _ (by decide), h 32 _ (by decide), h 32 _ (by decide)]
-- what the snapshots see, and the chosen entries, as lists
def sv (M : zHp) (s : Nat) : Int := if iF M 45 s = 0 then -1 else iF M 46 s
def sn3 (M : zHp) : List Int := [sv M 0, sv M 1, sv M 2]
def chs (M : zHp) (N : Nat) : List En := ((List.range N).filter (fun e => !(iF M 40 e == 0))).map (me M)
theorem mem_chs {M : zHp} {N : Nat} {x : En} : x ∈ chs M N ↔ ∃ e, e < N ∧ iF M 40 e ≠ 0 ∧ me M e = x := by
  unfold chs
  simp only [List.mem_map, List.mem_filter, List.mem_range]
  constructor
  · rintro ⟨e, ⟨h1, h2⟩, h3⟩
    exact ⟨e, h1, by simpa using h2, h3⟩
  · rintro ⟨e, h1, h2, h3⟩
    exact ⟨e, ⟨h1, by simpa using h2⟩, h3⟩
theorem prt_iff {M : zHp} {a b : Int} (ha : 0 ≤ a) : prt (sn3 M) a b = true ↔ ∃ s, s < 3 ∧ iF M 45 s ≠ 0 ∧ a ≤ iF M 46 s ∧ iF M 46 s < b := by
  have key : ∀ s : Nat, (a ≤ sv M s ∧ sv M s < b) ↔ (iF M 45 s ≠ 0 ∧ a ≤ iF M 46 s ∧ iF M 46 s < b) := by
    intro s
    unfold sv
    by_cases c : iF M 45 s = 0
    · simp only [c, if_true]
      constructor
      · intro q; omega
      · intro q; exact absurd rfl q.1
    · simp [c]
  unfold prt sn3
  simp only [List.any_cons, List.any_nil, Bool.or_false, Bool.or_eq_true, Bool.and_eq_true, decide_eq_true_eq, key]
  constructor
  · rintro (q | q | q)
    · exact ⟨0, by decide, q⟩
    · exact ⟨1, by decide, q⟩
    · exact ⟨2, by decide, q⟩
  · rintro ⟨s, hs, q⟩
    match s, hs with
    | 0, _ => exact Or.inl q
    | 1, _ => exact Or.inr (Or.inl q)
    | 2, _ => exact Or.inr (Or.inr q)
theorem nxa_iff {L : List En} {e f : En} : nxa L e f = true ↔ eK f = eK e ∧ eS e < eS f ∧ ∀ g ∈ L, eK g = eK e → eS e < eS g → eS f ≤ eS g := by
  unfold nxa
  simp only [Bool.and_eq_true, beq_iff_eq, decide_eq_true_eq, List.all_eq_true, Bool.or_eq_true, Bool.not_eq_true', and_assoc]
  constructor
  · rintro ⟨h1, h2, h3⟩
    refine ⟨h1, h2, fun g hg h4 h5 => ?_⟩
    rcases h3 g hg with h6 | h6
    · simp [h4, h5] at h6
    · exact h6
  · rintro ⟨h1, h2, h3⟩
    refine ⟨h1, h2, fun g hg => ?_⟩
    by_cases h4 : eK g = eK e ∧ eS e < eS g
    · exact Or.inr (h3 g hg h4.1 h4.2)
    · left
      cases hb : (eK g == eK e && decide (eS e < eS g)) with
      | false => rfl
      | true => simp at hb; exact absurd hb h4
theorem shd_iff {M : zHp} {N e : Nat} (he : 0 ≤ iF M 32 e) : shd (sn3 M) (chs M N) (me M e) = true ↔ Sh1 M N e := by
  unfold shd Sh1
  simp only [List.any_eq_true, Bool.and_eq_true, Bool.not_eq_true', nxa_iff]
  constructor
  · rintro ⟨x, hx, ⟨h1, h2, h3⟩, h4⟩
    obtain ⟨f, hf, hc, rfl⟩ := mem_chs.mp hx
    rw [eK_me, eK_me] at h1
    rw [eS_me, eS_me] at h2
    refine ⟨f, hf, ⟨hc, h1, h2⟩, fun g hg hA => ?_, fun s hs hp => ?_⟩
    · have := h3 (me M g) (mem_chs.mpr ⟨g, hg, hA.1, rfl⟩) (by rw [eK_me, eK_me]; exact hA.2.1) (by rw [eS_me, eS_me]; exact hA.2.2)
      rw [eS_me, eS_me] at this
      exact this
    · rw [eS_me, eS_me] at h4
      have : prt (sn3 M) (iF M 32 e) (iF M 32 f) = true := (prt_iff he).mpr ⟨s, hs, hp⟩
      rw [h4] at this
      cases this
  · rintro ⟨f, hf, hA, hm, hp⟩
    refine ⟨me M f, mem_chs.mpr ⟨f, hf, hA.1, rfl⟩, ⟨by rw [eK_me, eK_me]; exact hA.2.1, by rw [eS_me, eS_me]; exact hA.2.2, fun g hg h1 h2 => ?_⟩, ?_⟩
    · obtain ⟨g, hg', hc, rfl⟩ := mem_chs.mp hg
      rw [eK_me, eK_me] at h1
      rw [eS_me, eS_me] at h2
      rw [eS_me, eS_me]
      exact hm g hg' ⟨hc, h1, h2⟩
    · cases hb : prt (sn3 M) (eS (me M e)) (eS (me M f)) with
      | false => rfl
      | true =>
        rw [eS_me, eS_me] at hb
        obtain ⟨s, hs, q⟩ := (prt_iff he).mp hb
        exact absurd q (hp s hs)
def fa1 (M : zHp) (N : Nat) (e : Nat) : Int := if iF M 40 e ≠ 0 ∧ shd (sn3 M) (chs M N) (me M e) = true then 1 else 0
theorem fa1_pos {M : zHp} {N e : Nat} (he : 0 ≤ iF M 32 e) (h1 : iF M 40 e ≠ 0) (h2 : Sh1 M N e) : 1 = fa1 M N e := by
  unfold fa1; rw [if_pos ⟨h1, (shd_iff he).mpr h2⟩]
theorem fa1_neg {M : zHp} {N e : Nat} (he : 0 ≤ iF M 32 e) (h2 : ¬ (iF M 40 e ≠ 0 ∧ Sh1 M N e)) : 0 = fa1 M N e := by
  unfold fa1; rw [if_neg (fun q => h2 ⟨q.1, (shd_iff he).mp q.2⟩)]
theorem rg01 {x : Int} (h : x = 0 ∨ x = 1) : rg x := by
  rcases h with rfl | rfl
  · exact rg0
  · exact rg1
set_option maxRecDepth 10000 in
theorem ml_sift1 (h : mSh M) (hG : RG M) (hN : iF M 30 1 = (N : Int)) (hN2 : N ≤ 520) (hS : ∀ e, e < N → 0 ≤ iF M 32 e) (κ : zHp → Option (Int × zHp)) : ∀ (d n i : Nat) (P : zHp), i + d = N → d < n → Upd 41 (fa1 M N) i M P → ∃ P2, f_Md_sift_L2 κ 30  n (i : Int) P = κ P2 ∧ Upd 41 (fa1 M N) N M P2 := by
  intro d
  induction d with
  | zero =>
    intro n i P hi hn hU
    obtain ⟨n, rfl⟩ : ∃ k, n = k + 1 := ⟨n - 1, by omega⟩
    unfold f_Md_sift_L2
    have hP := hU.1.mSh h
    have hNP : iF P 30 1 = (N : Int) := (hU.2.2.1 30 1 (by decide)).trans hN
    have e1 : zle (N : Int) (i : Int) := (zle_iff (rgN (by omega)) (rgN (by omega))).mpr (by omega)
    have hiN : i = N := by omega
    subst hiN
    refine ⟨P, ?_, hU⟩
    simp only [↓gI_b, ↓gR_b, ↓pI_b, ↓pZ_b, ↓pR_b, ↓ldI_b, ↓ldR_b, ↓stI_b, ↓stZ_b, ↓stR_b, zk_eq, sh_wI, sh_wR, rF_wI, iF_wR, ms30 hP, ms31 hP, ms32 hP, ms33 hP, ms34 hP, ms35 hP, ms36 hP, ms37 hP, ms38 hP, ms39 hP, ms40 hP, ms41 hP, ms42 hP, ms43 hP, ms44 hP, ms45 hP, ms46 hP, ms47 hP, ms48 hP, ms49 hP, ms50 hP, mr0 hP, mr1 hP, mr2 hP, mr3 hP, mr4 hP, mr5 hP, mr6 hP, mr7 hP, mr8 hP, mr9 hP, mr10 hP, mr11 hP, mr12 hP, mr13 hP, mr14 hP, mr15 hP, mr16 hP, mr17 hP, mr18 hP, mr19 hP, true_and, and_true, and_self, ↓reduceIte, Int.toNat_natCast, Int.natCast_nonneg, Nat.reduceLT, Nat.reduceLeDiff, Nat.reduceEqDiff, ne_eq, not_false_eq_true, Nat.reduceAdd, reduceCtorEq, Int.reduceLT, Int.reduceLE, Int.reduceToNat, hNP, e1]
  | succ d ih =>
    intro n i P hi hn hU
    obtain ⟨n, rfl⟩ : ∃ k, n = k + 1 := ⟨n - 1, by omega⟩
    unfold f_Md_sift_L2
    have hP := hU.1.mSh h
    have hGP := hU.2.1
    have hNP : iF P 30 1 = (N : Int) := (hU.2.2.1 30 1 (by decide)).trans hN
    have e1 : ¬ zle (N : Int) (i : Int) := fun q => by have := (zle_iff (rgN (by omega)) (rgN (by omega))).mp q; omega
    have e2 : (i : Int) < 4096 := by omega
    have e3 : i < 520 := by omega
    have e5 := zaddN (i := i) (by omega)
    have f1 : iF P 40 i = iF M 40 i := hU.at (by decide)
    have e6 := zeq_iff (hG 40 i) rg0
    have hQ : mSh (wI P 41 i 0) := mSh_wI hP
    have hGQ : RG (wI P 41 i 0) := RG_wI hGP rg0
    have f2 : iF (wI P 41 i 0) 40 i = iF M 40 i := by rw [iF_wI_ne (by decide)]; exact f1
    have hU0 : ∀ q k, q ≠ 41 → iF (wI P 41 i 0) q k = iF M q k := fun q k hq => by rw [iF_wI_ne hq]; exact hU.at hq
    have hNQ : iF (wI P 41 i 0) 30 1 = (N : Int) := (hU0 30 1 (by decide)).trans hN
    by_cases c1 : iF M 40 i = 0
    · simp only [↓gI_b, ↓gR_b, ↓pI_b, ↓pZ_b, ↓pR_b, ↓ldI_b, ↓ldR_b, ↓stI_b, ↓stZ_b, ↓stR_b, zk_eq, sh_wI, sh_wR, rF_wI, iF_wR, ms30 hP, ms31 hP, ms32 hP, ms33 hP, ms34 hP, ms35 hP, ms36 hP, ms37 hP, ms38 hP, ms39 hP, ms40 hP, ms41 hP, ms42 hP, ms43 hP, ms44 hP, ms45 hP, ms46 hP, ms47 hP, ms48 hP, ms49 hP, ms50 hP, mr0 hP, mr1 hP, mr2 hP, mr3 hP, mr4 hP, mr5 hP, mr6 hP, mr7 hP, mr8 hP, mr9 hP, mr10 hP, mr11 hP, mr12 hP, mr13 hP, mr14 hP, mr15 hP, mr16 hP, mr17 hP, mr18 hP, mr19 hP, true_and, and_true, and_self, ↓reduceIte, Int.toNat_natCast, Int.natCast_nonneg, Nat.reduceLT, Nat.reduceLeDiff, Nat.reduceEqDiff, ne_eq, not_false_eq_true, Nat.reduceAdd, reduceCtorEq, Int.reduceLT, Int.reduceLE, Int.reduceToNat, hNP, e1, e2, e3, e5, f2, e6, eq_true c1, true_or]
      exact ih n (i + 1) _ (by omega) (by omega) (hU.st (by decide) (by decide) (by rw [ms41 h]; exact e3) (fa1_neg (hS i (by omega)) (fun q => q.1 c1)) rg0)
    obtain ⟨w, hw, hwi⟩ := m_above hQ hGQ hNQ hN2 e3
    have key : ∀ x : Int, (x = 0 ∨ x = 1) → x = fa1 M N i → ∃ P2, f_Md_sift_L2 κ 30 n ((i + 1 : Nat) : Int) (wI (wI P 41 i 0) 41 i x) = κ P2 ∧ Upd 41 (fa1 M N) N M P2 := by
      intro x hx hxf
      refine ih n (i + 1) _ (by omega) (by omega) ?_
      have hb := hU.st (x := x) (by decide) (by decide) (by rw [ms41 h]; exact e3) hxf (rg01 hx)
      refine ⟨?_, RG_wI hGQ (rg01 hx), fun q k hq => by rw [iF_wI_ne hq]; exact hU0 q k hq, fun k => ?_⟩
      · exact (hU.1.tr (mFr.wI P (by decide) (by decide))).tr (mFr.wI _ (by decide) (by decide))
      · rw [← hb.2.2.2 k, iF_wI, iF_wI, iF_wI, sh_wI]
        by_cases hk : k = i
        · simp [hk, ms41 hP, e3]
        · simp [hk]
    rcases hwi with ⟨rfl, hno⟩ | ⟨b, hb, rfl, hB, hm⟩
    · have e9 : zlt (-1) 0 := by decide
      simp only [↓gI_b, ↓gR_b, ↓pI_b, ↓pZ_b, ↓pR_b, ↓ldI_b, ↓ldR_b, ↓stI_b, ↓stZ_b, ↓stR_b, zk_eq, sh_wI, sh_wR, rF_wI, iF_wR, ms30 hP, ms31 hP, ms32 hP, ms33 hP, ms34 hP, ms35 hP, ms36 hP, ms37 hP, ms38 hP, ms39 hP, ms40 hP, ms41 hP, ms42 hP, ms43 hP, ms44 hP, ms45 hP, ms46 hP, ms47 hP, ms48 hP, ms49 hP, ms50 hP, mr0 hP, mr1 hP, mr2 hP, mr3 hP, mr4 hP, mr5 hP, mr6 hP, mr7 hP, mr8 hP, mr9 hP, mr10 hP, mr11 hP, mr12 hP, mr13 hP, mr14 hP, mr15 hP, mr16 hP, mr17 hP, mr18 hP, mr19 hP, true_and, and_true, and_self, ↓reduceIte, Int.toNat_natCast, Int.natCast_nonneg, Nat.reduceLT, Nat.reduceLeDiff, Nat.reduceEqDiff, ne_eq, not_false_eq_true, Nat.reduceAdd, reduceCtorEq, Int.reduceLT, Int.reduceLE, Int.reduceToNat, ↓zb2_of hw, hNP, e1, e2, e3, e5, f2, e6, c1, e9, true_or]
      refine key 0 (Or.inl rfl) ?_
      refine fa1_neg (hS i (by omega)) ?_
      rintro ⟨-, f, hf, hA, -⟩
      exact hno f hf ((AbC.cg hU0 i f).mpr hA)
    · have e9 : ¬ zlt (b : Int) 0 := fun q => by have := (zlt_iff (rgN (by omega)) rg0).mp q; omega
      obtain ⟨w2, hw2, hw2i⟩ := m_parted hQ hGQ e3 (show b < 520 by omega)
      rcases hw2i with ⟨rfl, hnp⟩ | ⟨rfl, s, hs, hsp⟩
      · have z0 : zeq 0 0 := by decide
        simp only [↓gI_b, ↓gR_b, ↓pI_b, ↓pZ_b, ↓pR_b, ↓ldI_b, ↓ldR_b, ↓stI_b, ↓stZ_b, ↓stR_b, zk_eq, sh_wI, sh_wR, rF_wI, iF_wR, ms30 hP, ms31 hP, ms32 hP, ms33 hP, ms34 hP, ms35 hP, ms36 hP, ms37 hP, ms38 hP, ms39 hP, ms40 hP, ms41 hP, ms42 hP, ms43 hP, ms44 hP, ms45 hP, ms46 hP, ms47 hP, ms48 hP, ms49 hP, ms50 hP, mr0 hP, mr1 hP, mr2 hP, mr3 hP, mr4 hP, mr5 hP, mr6 hP, mr7 hP, mr8 hP, mr9 hP, mr10 hP, mr11 hP, mr12 hP, mr13 hP, mr14 hP, mr15 hP, mr16 hP, mr17 hP, mr18 hP, mr19 hP, true_and, and_true, and_self, ↓reduceIte, Int.toNat_natCast, Int.natCast_nonneg, Nat.reduceLT, Nat.reduceLeDiff, Nat.reduceEqDiff, ne_eq, not_false_eq_true, Nat.reduceAdd, reduceCtorEq, Int.reduceLT, Int.reduceLE, Int.reduceToNat, ↓zb2_of hw, ↓zb2_of hw2, hNP, e1, e2, e3, e5, f2, e6, c1, e9, z0, or_true]
        refine key 1 (Or.inr rfl) ?_
        refine fa1_pos (hS i (by omega)) c1 ?_
        exact ⟨b, hb, (AbC.cg hU0 i b).mp hB, fun g hg hA => by have := hm g hg ((AbC.cg hU0 i g).mpr hA); rw [hU0 32 b (by decide), hU0 32 g (by decide)] at this; exact this, fun s hs hp => hnp s hs ((PtC.cg hU0 i b s).mpr hp)⟩
      · have z1 : ¬ zeq 1 0 := by decide
        simp only [↓gI_b, ↓gR_b, ↓pI_b, ↓pZ_b, ↓pR_b, ↓ldI_b, ↓ldR_b, ↓stI_b, ↓stZ_b, ↓stR_b, zk_eq, sh_wI, sh_wR, rF_wI, iF_wR, ms30 hP, ms31 hP, ms32 hP, ms33 hP, ms34 hP, ms35 hP, ms36 hP, ms37 hP, ms38 hP, ms39 hP, ms40 hP, ms41 hP, ms42 hP, ms43 hP, ms44 hP, ms45 hP, ms46 hP, ms47 hP, ms48 hP, ms49 hP, ms50 hP, mr0 hP, mr1 hP, mr2 hP, mr3 hP, mr4 hP, mr5 hP, mr6 hP, mr7 hP, mr8 hP, mr9 hP, mr10 hP, mr11 hP, mr12 hP, mr13 hP, mr14 hP, mr15 hP, mr16 hP, mr17 hP, mr18 hP, mr19 hP, true_and, and_true, and_self, ↓reduceIte, Int.toNat_natCast, Int.natCast_nonneg, Nat.reduceLT, Nat.reduceLeDiff, Nat.reduceEqDiff, ne_eq, not_false_eq_true, Nat.reduceAdd, reduceCtorEq, Int.reduceLT, Int.reduceLE, Int.reduceToNat, ↓zb2_of hw, ↓zb2_of hw2, hNP, e1, e2, e3, e5, f2, e6, c1, e9, z1, true_or]
        refine key 0 (Or.inl rfl) ?_
        refine fa1_neg (hS i (by omega)) ?_
        rintro ⟨-, f, hf, hA, hmin, hpt⟩
        have h1 := hm f hf ((AbC.cg hU0 i f).mpr hA)
        rw [hU0 32 b (by decide), hU0 32 f (by decide)] at h1
        have h2 := hmin b hb ((AbC.cg hU0 i b).mp hB)
        have h3 := (PtC.cg hU0 i b s).mp hsp
        refine hpt s hs ⟨h3.1, h3.2.1, ?_⟩
        have := h3.2.2
        omega
end MD4
