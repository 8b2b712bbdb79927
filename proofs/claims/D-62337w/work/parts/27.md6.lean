-- lists of entries up to order
theorem ins_perm (a : En) : ∀ l : List En, (ins a l).Perm (a :: l)
  | [] => List.Perm.refl _
  | b :: l => by
    unfold ins
    split
    · exact List.Perm.refl _
    · exact ((ins_perm a l).cons b).trans (List.Perm.swap a b l)
theorem srt_perm : ∀ l : List En, (srt l).Perm l
  | [] => List.Perm.refl _
  | a :: l => (ins_perm a (srt l)).trans ((srt_perm l).cons a)
theorem any_cg {α : Type} {L C : List α} {p : α → Bool} (h : ∀ x, x ∈ L ↔ x ∈ C) : L.any p = C.any p := by
  rw [Bool.eq_iff_iff, List.any_eq_true, List.any_eq_true]
  constructor
  · rintro ⟨x, hx, hp⟩; exact ⟨x, (h x).mp hx, hp⟩
  · rintro ⟨x, hx, hp⟩; exact ⟨x, (h x).mpr hx, hp⟩
theorem all_cg {α : Type} {L C : List α} {p : α → Bool} (h : ∀ x, x ∈ L ↔ x ∈ C) : L.all p = C.all p := by
  rw [Bool.eq_iff_iff, List.all_eq_true, List.all_eq_true]
  constructor
  · intro q x hx; exact q x ((h x).mpr hx)
  · intro q x hx; exact q x ((h x).mp hx)
theorem nxa_cg {L C : List En} (h : ∀ x, x ∈ L ↔ x ∈ C) (e f : En) : nxa L e f = nxa C e f := by
  unfold nxa
  rw [all_cg h]
theorem shd_cg {L C : List En} (h : ∀ x, x ∈ L ↔ x ∈ C) (seen : List Int) (e : En) : shd seen L e = shd seen C e := by
  unfold shd
  rw [any_cg h]
  congr 1
  funext f
  rw [nxa_cg h]
theorem drp_cg {L C : List En} (h : ∀ x, x ∈ L ↔ x ∈ C) (time : Int) (seen : List Int) (e : En) : drp time seen L e = drp time seen C e := by
  unfold drp
  rw [all_cg h]
  congr 1
  congr 1
  funext f
  rw [shd_cg h]
theorem kp_cg {L C : List En} (h : ∀ x, x ∈ L ↔ x ∈ C) (low : Bool) (time : Int) (seen : List Int) (e : En) : kp low time seen L e = kp low time seen C e := by
  unfold kp
  rw [shd_cg h, drp_cg h]
theorem sift_perm {L C : List En} (h : L.Perm C) (low : Bool) (time : Int) (seen : List Int) : (sift low time seen L).Perm (sift low time seen C) := by
  unfold sift
  have e : kp low time seen L = kp low time seen C := by
    funext x
    exact kp_cg (fun x => h.mem_iff) low time seen x
  rw [e]
  exact h.filter _
-- the entries of the model that have something
def ent (M : zHp) (N : Nat) (p : Nat → Bool) : List En := ((List.range N).filter p).map (me M)
theorem ent_cg {M P : zHp} {N : Nat} {p q : Nat → Bool} (h1 : ∀ e, e < N → p e = q e) (h2 : ∀ e, e < N → q e = true → me M e = me P e) : ent M N p = ent P N q := by
  unfold ent
  rw [List.filter_congr (fun x hx => h1 x (List.mem_range.mp hx))]
  apply List.map_congr_left
  intro x hx
  obtain ⟨h3, h4⟩ := List.mem_filter.mp hx
  exact h2 x (List.mem_range.mp h3) h4
theorem ent_len {M : zHp} {N : Nat} {p : Nat → Bool} : (ent M N p).length = cnt p N := by
  unfold ent cnt
  rw [List.length_map]
theorem mem_ent {M : zHp} {N : Nat} {p : Nat → Bool} {x : En} : x ∈ ent M N p ↔ ∃ e, e < N ∧ p e = true ∧ me M e = x := by
  unfold ent
  simp only [List.mem_map, List.mem_filter, List.mem_range]
  constructor
  · rintro ⟨e, ⟨h1, h2⟩, h3⟩; exact ⟨e, h1, h2, h3⟩
  · rintro ⟨e, h1, h2, h3⟩; exact ⟨e, ⟨h1, h2⟩, h3⟩
theorem ent_filter {M : zHp} {N : Nat} {p : Nat → Bool} (k : En → Bool) : (ent M N p).filter k = ent M N (fun e => p e && k (me M e)) := by
  unfold ent
  rw [List.filter_map, List.filter_filter]
  congr 1
  apply List.filter_congr
  intro x _
  simp [Function.comp, Bool.and_comm]
theorem filter_or_perm {α : Type} (p q : α → Bool) : ∀ l : List α, (∀ x ∈ l, ¬ (p x = true ∧ q x = true)) → (l.filter (fun x => p x || q x)).Perm (l.filter p ++ l.filter q)
  | [], _ => List.Perm.refl _
  | a :: l, h => by
    have ih := filter_or_perm p q l (fun x hx => h x (List.mem_cons_of_mem _ hx))
    have ha := h a List.mem_cons_self
    by_cases c1 : p a = true
    · have c2 : q a = false := by
        cases hq : q a with
        | false => rfl
        | true => exact absurd ⟨c1, hq⟩ ha
      simp only [List.filter_cons, c1, c2, Bool.true_or, if_true, Bool.false_eq_true, if_false, List.cons_append]
      exact ih.cons a
    · have c1' : p a = false := by simpa using c1
      by_cases c2 : q a = true
      · simp only [List.filter_cons, c1', c2, Bool.false_or, if_true, Bool.false_eq_true, if_false]
        exact (ih.cons a).trans List.perm_middle.symm
      · have c2' : q a = false := by simpa using c2
        simp only [List.filter_cons, c1', c2', Bool.false_or, Bool.false_eq_true, if_false]
        exact ih
theorem ent_or {M : zHp} {N : Nat} {p q : Nat → Bool} (h : ∀ e, e < N → ¬ (p e = true ∧ q e = true)) : (ent M N (fun e => p e || q e)).Perm (ent M N p ++ ent M N q) := by
  unfold ent
  rw [← List.map_append]
  exact (filter_or_perm p q _ (fun x hx => h x (List.mem_range.mp hx))).map _
section MD6
variable {M : zHp} {N : Nat}
theorem me_cg2 {r : Nat} (hr : r ≠ 31 ∧ r ≠ 32 ∧ r ≠ 33 ∧ r ≠ 34 ∧ r ≠ 35 ∧ r ≠ 38 ∧ r ≠ 39) {M P : zHp} (h : ∀ q k, q ≠ r → iF P q k = iF M q k) (e : Nat) : me P e = me M e := by
  unfold me
  rw [h 34 _ (by omega), h 31 _ (by omega), h 32 _ (by omega), h 35 _ (by omega), h 33 _ (by omega), h 38 _ (by omega), h 39 _ (by omega)]
/-- how many of its level come before it -/
def rnk (M : zHp) (N : Nat) (e : Nat) : Nat := cnt (fun f => decide (iF M 36 f = iF M 36 e) && befB (me M f) (me M e)) N
set_option maxRecDepth 10000 in
theorem ml_rnk (h : mSh M) (hG : RG M) (hN : iF M 30 1 = (N : Int)) (hN2 : N ≤ 520) {x : Nat} (hx : x < 520) (κ : Int → zHp → Option (zHp)) : ∀ (d n i : Nat) (v : Int), i + d = N → d < n → (v = ((cnt (fun f => decide (iF M 36 f = iF M 36 x) && befB (me M f) (me M x)) i : Nat) : Int)) → ∃ w, f_Md_arrange_L37 κ 30 (x : Int) n v (i : Int) M = κ w M ∧ (w = ((cnt (fun f => decide (iF M 36 f = iF M 36 x) && befB (me M f) (me M x)) N : Nat) : Int)) := by
  intro d
  induction d with
  | zero =>
    intro n i v hi hn hv
    obtain ⟨n, rfl⟩ : ∃ k, n = k + 1 := ⟨n - 1, by omega⟩
    unfold f_Md_arrange_L37
    have e1 : zle (N : Int) (i : Int) := (zle_iff (rgN (by omega)) (rgN (by omega))).mpr (by omega)
    have hiN : i = N := by omega
    subst hiN
    refine ⟨v, ?_, hv⟩
    simp only [↓gI_b, ↓gR_b, ↓pI_b, ↓pZ_b, ↓pR_b, ↓ldI_b, ↓ldR_b, ↓stI_b, ↓stZ_b, ↓stR_b, zk_eq, sh_wI, sh_wR, rF_wI, iF_wR, ms30 h, ms31 h, ms32 h, ms33 h, ms34 h, ms35 h, ms36 h, ms37 h, ms38 h, ms39 h, ms40 h, ms41 h, ms42 h, ms43 h, ms44 h, ms45 h, ms46 h, ms47 h, ms48 h, ms49 h, ms50 h, mr0 h, mr1 h, mr2 h, mr3 h, mr4 h, mr5 h, mr6 h, mr7 h, mr8 h, mr9 h, mr10 h, mr11 h, mr12 h, mr13 h, mr14 h, mr15 h, mr16 h, mr17 h, mr18 h, mr19 h, true_and, and_true, and_self, ↓reduceIte, Int.toNat_natCast, Int.natCast_nonneg, Nat.reduceLT, Nat.reduceLeDiff, Nat.reduceEqDiff, ne_eq, not_false_eq_true, Nat.reduceAdd, reduceCtorEq, Int.reduceLT, Int.reduceLE, Int.reduceToNat, hN, e1]
  | succ d ih =>
    intro n i v hi hn hv
    obtain ⟨n, rfl⟩ : ∃ k, n = k + 1 := ⟨n - 1, by omega⟩
    unfold f_Md_arrange_L37
    have e1 : ¬ zle (N : Int) (i : Int) := fun q => by have := (zle_iff (rgN (by omega)) (rgN (by omega))).mp q; omega
    have e2 : (i : Int) < 4096 := by omega
    have e3 : i < 520 := by omega
    have e5 := zaddN (i := i) (by omega)
    have x1 : (x : Int) < 4096 := by omega
    have e6 := zeq_iff (hG 36 i) (hG 36 x)
    have hb := m_before h hG e3 hx
    have z0 : zeq 0 0 := by decide
    have z1 : ¬ zeq 1 0 := by decide
    by_cases c1 : ¬ iF M 36 i = iF M 36 x
    · simp only [↓gI_b, ↓gR_b, ↓pI_b, ↓pZ_b, ↓pR_b, ↓ldI_b, ↓ldR_b, ↓stI_b, ↓stZ_b, ↓stR_b, zk_eq, sh_wI, sh_wR, rF_wI, iF_wR, ms30 h, ms31 h, ms32 h, ms33 h, ms34 h, ms35 h, ms36 h, ms37 h, ms38 h, ms39 h, ms40 h, ms41 h, ms42 h, ms43 h, ms44 h, ms45 h, ms46 h, ms47 h, ms48 h, ms49 h, ms50 h, mr0 h, mr1 h, mr2 h, mr3 h, mr4 h, mr5 h, mr6 h, mr7 h, mr8 h, mr9 h, mr10 h, mr11 h, mr12 h, mr13 h, mr14 h, mr15 h, mr16 h, mr17 h, mr18 h, mr19 h, true_and, and_true, and_self, ↓reduceIte, Int.toNat_natCast, Int.natCast_nonneg, Nat.reduceLT, Nat.reduceLeDiff, Nat.reduceEqDiff, ne_eq, not_false_eq_true, Nat.reduceAdd, reduceCtorEq, Int.reduceLT, Int.reduceLE, Int.reduceToNat, hN, e1, e2, e3, e5, e6, x1, hx, c1]
      exact ih n (i + 1) _ (by omega) (by omega) (by rw [hv]; exact cnt_sn (p := fun f => decide (iF M 36 f = iF M 36 x) && befB (me M f) (me M x)) (by simp [c1]))
    have c1 := Decidable.not_not.mp c1
    by_cases c2 : befB (me M i) (me M x) = true
    · rw [if_pos c2] at hb
      simp only [↓gI_b, ↓gR_b, ↓pI_b, ↓pZ_b, ↓pR_b, ↓ldI_b, ↓ldR_b, ↓stI_b, ↓stZ_b, ↓stR_b, zk_eq, sh_wI, sh_wR, rF_wI, iF_wR, ms30 h, ms31 h, ms32 h, ms33 h, ms34 h, ms35 h, ms36 h, ms37 h, ms38 h, ms39 h, ms40 h, ms41 h, ms42 h, ms43 h, ms44 h, ms45 h, ms46 h, ms47 h, ms48 h, ms49 h, ms50 h, mr0 h, mr1 h, mr2 h, mr3 h, mr4 h, mr5 h, mr6 h, mr7 h, mr8 h, mr9 h, mr10 h, mr11 h, mr12 h, mr13 h, mr14 h, mr15 h, mr16 h, mr17 h, mr18 h, mr19 h, true_and, and_true, and_self, ↓reduceIte, Int.toNat_natCast, Int.natCast_nonneg, Nat.reduceLT, Nat.reduceLeDiff, Nat.reduceEqDiff, ne_eq, not_false_eq_true, Nat.reduceAdd, reduceCtorEq, Int.reduceLT, Int.reduceLE, Int.reduceToNat, hN, e1, e2, e3, e5, e6, x1, hx, eq_true c1, ↓zb2_of hb, z1]
      exact ih n (i + 1) _ (by omega) (by omega) (by rw [hv]; exact cnt_st (p := fun f => decide (iF M 36 f = iF M 36 x) && befB (me M f) (me M x)) (by simp [c1, c2]) (by omega))
    · rw [if_neg c2] at hb
      simp only [↓gI_b, ↓gR_b, ↓pI_b, ↓pZ_b, ↓pR_b, ↓ldI_b, ↓ldR_b, ↓stI_b, ↓stZ_b, ↓stR_b, zk_eq, sh_wI, sh_wR, rF_wI, iF_wR, ms30 h, ms31 h, ms32 h, ms33 h, ms34 h, ms35 h, ms36 h, ms37 h, ms38 h, ms39 h, ms40 h, ms41 h, ms42 h, ms43 h, ms44 h, ms45 h, ms46 h, ms47 h, ms48 h, ms49 h, ms50 h, mr0 h, mr1 h, mr2 h, mr3 h, mr4 h, mr5 h, mr6 h, mr7 h, mr8 h, mr9 h, mr10 h, mr11 h, mr12 h, mr13 h, mr14 h, mr15 h, mr16 h, mr17 h, mr18 h, mr19 h, true_and, and_true, and_self, ↓reduceIte, Int.toNat_natCast, Int.natCast_nonneg, Nat.reduceLT, Nat.reduceLeDiff, Nat.reduceEqDiff, ne_eq, not_false_eq_true, Nat.reduceAdd, reduceCtorEq, Int.reduceLT, Int.reduceLE, Int.reduceToNat, hN, e1, e2, e3, e5, e6, x1, hx, eq_true c1, ↓zb2_of hb, z0]
      exact ih n (i + 1) _ (by omega) (by omega) (by rw [hv]; exact cnt_sn (p := fun f => decide (iF M 36 f = iF M 36 x) && befB (me M f) (me M x)) (by simp [c2]))
set_option maxRecDepth 10000 in
theorem ml_arr (h : mSh M) (hG : RG M) (hN : iF M 30 1 = (N : Int)) (hN2 : N ≤ 520)  (κ : zHp → Option (zHp)) : ∀ (d n i : Nat) (P : zHp), i + d = N → d < n → Upd 37 (fun e => if iF M 36 e = 1 ∨ iF M 36 e = 2 then (rnk M N e : Int) else iF M 37 e) i M P → ∃ P2, f_Md_arrange_L2 κ 30  n (i : Int) P = κ P2 ∧ Upd 37 (fun e => if iF M 36 e = 1 ∨ iF M 36 e = 2 then (rnk M N e : Int) else iF M 37 e) N M P2 := by
  intro d
  induction d with
  | zero =>
    intro n i P hi hn hU
    obtain ⟨n, rfl⟩ : ∃ k, n = k + 1 := ⟨n - 1, by omega⟩
    unfold f_Md_arrange_L2
    have hP := hU.1.mSh h
    have hNP : iF P 30 1 = (N : Int) := (hU.2.2.1 30 1 (by decide)).trans hN
    have e1 : zle (N : Int) (i : Int) := (zle_iff (rgN (by omega)) (rgN (by omega))).mpr (by omega)
    have hiN : i = N := by omega
    subst hiN
    refine ⟨P, ?_, hU⟩
    simp only [↓gI_b, ↓gR_b, ↓pI_b, ↓pZ_b, ↓pR_b, ↓ldI_b, ↓ldR_b, ↓stI_b, ↓stZ_b, ↓stR_b, zk_eq, sh_wI, sh_wR, rF_wI, iF_wR, ms30 hP, ms31 hP, ms32 hP, ms33 hP, ms34 hP, ms35 hP, ms36 hP, ms37 hP, ms38 hP, ms39 hP, ms40 hP, ms41 hP, ms42 hP, ms43 hP, ms44 hP, ms45 hP, ms46 hP, ms47 hP, ms48 hP, ms49 hP, ms50 hP, mr0 hP, mr1 hP, mr2 hP, mr3 hP, mr4 hP, mr5 hP, mr6 hP, mr7 hP, mr8 hP, mr9 hP, mr10 hP, mr11 hP, mr12 hP, mr13 hP, mr14 hP, mr15 hP, mr16 hP, mr17 hP, mr18 hP, mr19 hP, true_and, and_true, and_self, ↓reduceIte, Int.toNat_natCast, Int.natCast_nonneg, Nat.reduceLT, Nat.reduceLeDiff, Nat.reduceEqDiff, ne_eq, not_false_eq_true, Nat.reduceAdd, reduceCtorEq, Int.reduceLT, Int.reduceLE, Int.reduceToNat, hNP, e1]
  | succ d ih =>
    intro n i P hi hn hU
    obtain ⟨n, rfl⟩ : ∃ k, n = k + 1 := ⟨n - 1, by omega⟩
    unfold f_Md_arrange_L2
    have hP := hU.1.mSh h
    have hGP := hU.2.1
    have hNP : iF P 30 1 = (N : Int) := (hU.2.2.1 30 1 (by decide)).trans hN
    have e1 : ¬ zle (N : Int) (i : Int) := fun q => by have := (zle_iff (rgN (by omega)) (rgN (by omega))).mp q; omega
    have e2 : (i : Int) < 4096 := by omega
    have e3 : i < 520 := by omega
    have e5 := zaddN (i := i) (by omega)
    have hU0 : ∀ q k, q ≠ 37 → iF P q k = iF M q k := fun q k hq => hU.at hq
    have f1 : iF P 36 i = iF M 36 i := hU.at (by decide)
    have f2 : iF P 37 i = iF M 37 i := hU.here
    have e6 := zeq_iff (hG 36 i) rg1
    have e7 := zeq_iff (hG 36 i) rg2
    have key : (iF M 36 i = 1 ∨ iF M 36 i = 2) → ∃ P2, f_Md_arrange_L37 (fun v M9 => (gR M9 8 30 6).bind fun x27 => (stI M9 20 x27 (i : Int) v).bind fun M29 => f_Md_arrange_L2 κ 30 n (zadd (i : Int) 1) M29) 30 (i : Int) zfu 0 0 P = κ P2 ∧ Upd 37 (fun e => if iF M 36 e = 1 ∨ iF M 36 e = 2 then (rnk M N e : Int) else iF M 37 e) N M P2 := by
      intro hc
      obtain ⟨w, h1, h2⟩ := ml_rnk hP hGP hNP hN2 (x := i) e3 (fun v M9 => (gR M9 8 30 6).bind fun x27 => (stI M9 20 x27 (i : Int) v).bind fun M29 => f_Md_arrange_L2 κ 30 n (zadd (i : Int) 1) M29) N zfu 0 0 (by omega) (zfu_gt hN2) rfl
      have hw : w = (rnk M N i : Int) := by
        rw [h2]
        congr 1
        apply cnt_cg
        intro k hk
        rw [hU0 36 _ (by decide), hU0 36 _ (by decide), me_cg2 (by decide) hU0, me_cg2 (by decide) hU0]
      have hle : rnk M N i ≤ N := cnt_le _ _
      obtain ⟨P2, h3, h4⟩ := ih n (i + 1) (wI P 37 i w) (by omega) (by omega) (hU.st (by decide) (by decide) (by rw [ms37 h]; exact e3) (by rw [hw, if_pos hc]) (by rw [hw]; exact rgN (by omega)))
      refine ⟨P2, h1.trans ?_, h4⟩
      simp only [↓gI_b, ↓gR_b, ↓pI_b, ↓pZ_b, ↓pR_b, ↓ldI_b, ↓ldR_b, ↓stI_b, ↓stZ_b, ↓stR_b, zk_eq, sh_wI, sh_wR, rF_wI, iF_wR, ms30 hP, ms31 hP, ms32 hP, ms33 hP, ms34 hP, ms35 hP, ms36 hP, ms37 hP, ms38 hP, ms39 hP, ms40 hP, ms41 hP, ms42 hP, ms43 hP, ms44 hP, ms45 hP, ms46 hP, ms47 hP, ms48 hP, ms49 hP, ms50 hP, mr0 hP, mr1 hP, mr2 hP, mr3 hP, mr4 hP, mr5 hP, mr6 hP, mr7 hP, mr8 hP, mr9 hP, mr10 hP, mr11 hP, mr12 hP, mr13 hP, mr14 hP, mr15 hP, mr16 hP, mr17 hP, mr18 hP, mr19 hP, true_and, and_true, and_self, ↓reduceIte, Int.toNat_natCast, Int.natCast_nonneg, Nat.reduceLT, Nat.reduceLeDiff, Nat.reduceEqDiff, ne_eq, not_false_eq_true, Nat.reduceAdd, reduceCtorEq, Int.reduceLT, Int.reduceLE, Int.reduceToNat, e2, e3, e5]
      exact h3
    generalize (fun (v : Int) (M9 : zHp) => (gR M9 8 30 6).bind fun x27 => (stI M9 20 x27 (i : Int) v).bind fun M29 => f_Md_arrange_L2 κ 30 n (zadd (i : Int) 1) M29) = K at key ⊢
    by_cases c1 : iF M 36 i = 1
    · simp only [↓gI_b, ↓gR_b, ↓pI_b, ↓pZ_b, ↓pR_b, ↓ldI_b, ↓ldR_b, ↓stI_b, ↓stZ_b, ↓stR_b, zk_eq, sh_wI, sh_wR, rF_wI, iF_wR, ms30 hP, ms31 hP, ms32 hP, ms33 hP, ms34 hP, ms35 hP, ms36 hP, ms37 hP, ms38 hP, ms39 hP, ms40 hP, ms41 hP, ms42 hP, ms43 hP, ms44 hP, ms45 hP, ms46 hP, ms47 hP, ms48 hP, ms49 hP, ms50 hP, mr0 hP, mr1 hP, mr2 hP, mr3 hP, mr4 hP, mr5 hP, mr6 hP, mr7 hP, mr8 hP, mr9 hP, mr10 hP, mr11 hP, mr12 hP, mr13 hP, mr14 hP, mr15 hP, mr16 hP, mr17 hP, mr18 hP, mr19 hP, true_and, and_true, and_self, ↓reduceIte, Int.toNat_natCast, Int.natCast_nonneg, Nat.reduceLT, Nat.reduceLeDiff, Nat.reduceEqDiff, ne_eq, not_false_eq_true, Nat.reduceAdd, reduceCtorEq, Int.reduceLT, Int.reduceLE, Int.reduceToNat, hNP, e1, e2, e3, e5, f1, f2, e6, e7, eq_true c1]
      exact key (Or.inl c1)
    by_cases c2 : iF M 36 i = 2
    · simp only [↓gI_b, ↓gR_b, ↓pI_b, ↓pZ_b, ↓pR_b, ↓ldI_b, ↓ldR_b, ↓stI_b, ↓stZ_b, ↓stR_b, zk_eq, sh_wI, sh_wR, rF_wI, iF_wR, ms30 hP, ms31 hP, ms32 hP, ms33 hP, ms34 hP, ms35 hP, ms36 hP, ms37 hP, ms38 hP, ms39 hP, ms40 hP, ms41 hP, ms42 hP, ms43 hP, ms44 hP, ms45 hP, ms46 hP, ms47 hP, ms48 hP, ms49 hP, ms50 hP, mr0 hP, mr1 hP, mr2 hP, mr3 hP, mr4 hP, mr5 hP, mr6 hP, mr7 hP, mr8 hP, mr9 hP, mr10 hP, mr11 hP, mr12 hP, mr13 hP, mr14 hP, mr15 hP, mr16 hP, mr17 hP, mr18 hP, mr19 hP, true_and, and_true, and_self, ↓reduceIte, Int.toNat_natCast, Int.natCast_nonneg, Nat.reduceLT, Nat.reduceLeDiff, Nat.reduceEqDiff, ne_eq, not_false_eq_true, Nat.reduceAdd, reduceCtorEq, Int.reduceLT, Int.reduceLE, Int.reduceToNat, hNP, e1, e2, e3, e5, f1, f2, e6, e7, c1, eq_true c2]
      exact key (Or.inr c2)
    · simp only [↓gI_b, ↓gR_b, ↓pI_b, ↓pZ_b, ↓pR_b, ↓ldI_b, ↓ldR_b, ↓stI_b, ↓stZ_b, ↓stR_b, zk_eq, sh_wI, sh_wR, rF_wI, iF_wR, ms30 hP, ms31 hP, ms32 hP, ms33 hP, ms34 hP, ms35 hP, ms36 hP, ms37 hP, ms38 hP, ms39 hP, ms40 hP, ms41 hP, ms42 hP, ms43 hP, ms44 hP, ms45 hP, ms46 hP, ms47 hP, ms48 hP, ms49 hP, ms50 hP, mr0 hP, mr1 hP, mr2 hP, mr3 hP, mr4 hP, mr5 hP, mr6 hP, mr7 hP, mr8 hP, mr9 hP, mr10 hP, mr11 hP, mr12 hP, mr13 hP, mr14 hP, mr15 hP, mr16 hP, mr17 hP, mr18 hP, mr19 hP, true_and, and_true, and_self, ↓reduceIte, Int.toNat_natCast, Int.natCast_nonneg, Nat.reduceLT, Nat.reduceLeDiff, Nat.reduceEqDiff, ne_eq, not_false_eq_true, Nat.reduceAdd, reduceCtorEq, Int.reduceLT, Int.reduceLE, Int.reduceToNat, hNP, e1, e2, e3, e5, f1, f2, e6, e7, c1, c2]
      exact ih n (i + 1) P (by omega) (by omega) (hU.sk (by rw [if_neg]; simp [c1, c2]))
theorem m_arrange (h : mSh M) (hG : RG M) (hN : iF M 30 1 = (N : Int)) (hN2 : N ≤ 520) : ∃ P, f_Md_arrange 30 M = some P ∧ Upd 37 (fun e => if iF M 36 e = 1 ∨ iF M 36 e = 2 then (rnk M N e : Int) else iF M 37 e) N M P := by
  unfold f_Md_arrange
  obtain ⟨P, h1, h2⟩ := ml_arr h hG hN hN2 (fun M10 => some M10) N zfu 0 M (by omega) (zfu_gt hN2) (Upd.rf hG)
  rw [zk_eq, ms30 h]
  rw [if_pos rfl]
  exact ⟨P, h1, h2⟩
end MD6
