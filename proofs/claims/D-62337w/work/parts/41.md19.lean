-- the model's readers: where an entry lies
def tof (M : zHp) (e : Nat) : Int := if iF M 36 e = 0 then iF M 30 2 - iF M 37 e else iF M 37 e / 6
def lieB (M : zHp) (l k : Int) (e : Nat) : Bool := (iF M 36 e == l) && ((l == -1) || (tof M e == k))
/-- the entries of a table, or of the memtable -/
def tbl (mem : List En) (l0 : List (List En)) (l1 l2 : List En) (l k : Int) : Option (List En) := if l = -1 then some mem else if l = 0 then l0[k.toNat]? else if l = 1 then (chk l1)[k.toNat]? else if l = 2 then (chk l2)[k.toNat]? else none
def sS (mem : List En) (l0 : List (List En)) (l1 l2 : List En) : Prop := srd mem ∧ (∀ t ∈ l0, srd t) ∧ srd l1 ∧ srd l2
theorem tkd_srd {l : List En} (h : srd l) (k : Nat) : srd (tkd l k) := by
  rw [fil_tkd h]
  exact List.Pairwise.filter _ h
theorem chk_srd {l t : List En} (h : srd l) {k : Nat} (ht : (chk l)[k]? = some t) : srd t := by
  rw [chk_get] at ht
  by_cases c : 6 * k < l.length
  · rw [if_pos c] at ht
    cases ht
    exact tkd_srd h k
  · rw [if_neg c] at ht; cases ht
theorem tbl_srd {mem : List En} {l0 : List (List En)} {l1 l2 : List En} (h : sS mem l0 l1 l2) {l k : Int} {t : List En} (ht : tbl mem l0 l1 l2 l k = some t) : srd t := by
  unfold tbl at ht
  by_cases c0 : l = -1
  · rw [if_pos c0] at ht; cases ht; exact h.1
  rw [if_neg c0] at ht
  by_cases c1 : l = 0
  · rw [if_pos c1] at ht
    exact h.2.1 t (List.mem_of_getElem? ht)
  rw [if_neg c1] at ht
  by_cases c2 : l = 1
  · rw [if_pos c2] at ht; exact chk_srd h.2.2.1 ht
  rw [if_neg c2] at ht
  by_cases c3 : l = 2
  · rw [if_pos c3] at ht; exact chk_srd h.2.2.2 ht
  · rw [if_neg c3] at ht; cases ht
theorem ent_self {M : zHp} {i : Nat} {p : Nat → Bool} : ent M (i + 1) p = ent M i p ++ (if p i = true then [me M i] else []) := ent_s (fun _ _ => rfl) (fun _ _ => rfl)
section MD22
variable {M : zHp} {N : Nat} {time sn : Int} {bt : List Bt} {seen : List Int} {pr tl : Int} {us vs : List Int} {u : Int} {un : List Un} {mem : List En} {l0 : List (List En)} {l1 l2 : List En}
theorem rk_ent {p : Nat → Bool} {x : En} : rk (ent M N p) x = cnt (fun f => p f && befB (me M f) x) N := by
  unfold rk ent cnt
  rw [List.countP_map, List.countP_filter, List.countP_eq_length_filter]
  congr 1
  apply List.filter_congr
  intro f _
  simp [Function.comp, Bool.and_comm]
theorem mB.rnk1 (hB : mB N sn mem l0 l1 l2 M) {e : Nat} (he : e < N) {l : Int} {L : List En} (hl : l = 1 ∨ l = 2) (hp : L.Perm (lvE M N l)) (h : iF M 36 e = l) : iF M 37 e = (rk L (me M e) : Int) := by
  obtain ⟨b1, b2, b3, b4, b5, b6, b7, b8, b9, b10, b11, b12, b13, b14, b15⟩ := hB
  rw [b13 e he (by omega)]
  congr 1
  have : rk L (me M e) = rk (lvE M N l) (me M e) := hp.countP_eq _
  rw [this]
  unfold lvE rnk
  rw [rk_ent]
  apply cnt_cg
  intro f hf
  rw [h]
  congr 1
theorem mB.cut6 (hB : mB N sn mem l0 l1 l2 M) {l : Int} {L : List En} (hl : l = 1 ∨ l = 2) (hs : srd L) (hp : L.Perm (lvE M N l)) (k : Nat) : (tkd L k).Perm (ent M N (lieB M l k)) := by
  rw [fil_tkd hs]
  refine (hp.filter _).trans (List.Perm.of_eq ?_)
  unfold lvE
  rw [ent_filter]
  refine ent_cg (fun e he => ?_) (fun _ _ _ => rfl)
  unfold lieB
  by_cases c : iF M 36 e = l
  · have hr := hB.rnk1 he hl hp c
    have c0 : iF M 36 e ≠ 0 := by omega
    have cm : (l == -1) = false := by
      have : l ≠ -1 := by omega
      simpa using this
    have ct : (tof M e == (k : Int)) = (rk L (me M e) / 6 == k) := by
      unfold tof
      rw [if_neg c0, hr]
      rw [Bool.eq_iff_iff]
      simp only [beq_iff_eq]
      omega
    rw [ct, cm, Bool.false_or]
  · have : (iF M 36 e == l) = false := by simpa using c
    rw [this, Bool.false_and, Bool.false_and]
theorem mB.tbl (hB : mB N sn mem l0 l1 l2 M) (hS : sS mem l0 l1 l2) {l k : Int} {t : List En} (hk : 0 ≤ k) (ht : tbl mem l0 l1 l2 l k = some t) : t.Perm (ent M N (lieB M l k)) := by
  have hB' := hB
  obtain ⟨b1, b2, b3, b4, b5, b6, b7, b8, b9, b10, b11, b12, b13, b14, b15⟩ := hB
  obtain ⟨k, rfl⟩ : ∃ j : Nat, k = (j : Int) := ⟨k.toNat, by omega⟩
  unfold Jvm.Pilot.CLayerVaultLaw_law_r1508_47824f.tbl at ht
  simp only [Int.toNat_natCast] at ht
  by_cases c0 : l = -1
  · rw [if_pos c0] at ht
    cases ht
    subst c0
    refine b7.trans (List.Perm.of_eq ?_)
    unfold lvE
    refine ent_cg (fun e he => ?_) (fun _ _ _ => rfl)
    unfold lieB
    simp
  rw [if_neg c0] at ht
  by_cases c1 : l = 0
  · rw [if_pos c1] at ht
    subst c1
    refine (b11 k t ht).trans (List.Perm.of_eq ?_)
    unfold tb0
    refine ent_cg (fun e he => ?_) (fun _ _ _ => rfl)
    unfold lieB tof
    by_cases c : iF M 36 e = 0
    · rw [if_pos c]; rfl
    · have : (iF M 36 e == 0) = false := by simpa using c
      rw [this, Bool.false_and, Bool.false_and]
  rw [if_neg c1] at ht
  by_cases c2 : l = 1
  · rw [if_pos c2, chk_get] at ht
    subst c2
    by_cases c : 6 * k < l1.length
    · rw [if_pos c] at ht
      cases ht
      exact hB'.cut6 (Or.inl rfl) hS.2.2.1 b8 k
    · rw [if_neg c] at ht; cases ht
  rw [if_neg c2] at ht
  by_cases c3 : l = 2
  · rw [if_pos c3, chk_get] at ht
    subst c3
    by_cases c : 6 * k < l2.length
    · rw [if_pos c] at ht
      cases ht
      exact hB'.cut6 (Or.inr rfl) hS.2.2.2 b9 k
    · rw [if_neg c] at ht; cases ht
  · rw [if_neg c3] at ht; cases ht
theorem m_tableOf (h : mSh M) (hG : RG M) (hB : mB N sn mem l0 l1 l2 M) {e : Nat} (he : e < N) (hl : iF M 36 e = 0 ∨ iF M 36 e = 1 ∨ iF M 36 e = 2) : f_Md_tableOf 30 (e : Int) M = some (tof M e, M) ∧ rg (tof M e) := by
  obtain ⟨b1, b2, b3, b4, b5, b6, b7, b8, b9, b10, b11, b12, b13, b14, b15⟩ := hB
  have e2 : (e : Int) < 4096 := by omega
  have e3 : e < 520 := by omega
  have e6 := zeq_iff (hG 36 e) rg0
  unfold f_Md_tableOf tof
  by_cases c : iF M 36 e = 0
  · have := b12 e he c
    have r37 := hG 37 e
    have hn := hG 30 2
    have h4 := hG 30 3
    unfold rg at r37 hn h4
    have es : zsub (iF M 30 2) (iF M 37 e) = iF M 30 2 - iF M 37 e := zsub_eq (by omega) (by omega)
    refine ⟨?_, by rw [if_pos c]; unfold rg; omega⟩
    simp only [↓gI_b, ↓gR_b, ↓pI_b, ↓pZ_b, ↓pR_b, ↓ldI_b, ↓ldR_b, ↓stI_b, ↓stZ_b, ↓stR_b, zk_eq, sh_wI, sh_wR, rF_wI, iF_wR, ms30 h, ms31 h, ms32 h, ms33 h, ms34 h, ms35 h, ms36 h, ms37 h, ms38 h, ms39 h, ms40 h, ms41 h, ms42 h, ms43 h, ms44 h, ms45 h, ms46 h, ms47 h, ms48 h, ms49 h, ms50 h, mr0 h, mr1 h, mr2 h, mr3 h, mr4 h, mr5 h, mr6 h, mr7 h, mr8 h, mr9 h, mr10 h, mr11 h, mr12 h, mr13 h, mr14 h, mr15 h, mr16 h, mr17 h, mr18 h, mr19 h, true_and, and_true, and_self, ↓reduceIte, Int.toNat_natCast, Int.natCast_nonneg, Nat.reduceLT, Nat.reduceLeDiff, Nat.reduceEqDiff, ne_eq, not_false_eq_true, Nat.reduceAdd, reduceCtorEq, Int.reduceLT, Int.reduceLE, Int.reduceToNat, e2, e3, e6, eq_true c, es]
  · have hr := b13 e he (by omega)
    have hle : rnk M N e ≤ N := cnt_le _ _
    have es : zdiv (iF M 37 e) 6 = iF M 37 e / 6 := zdiv_eq (hG 37 e) (by unfold rg; omega) (by omega) (by omega)
    refine ⟨?_, by rw [if_neg c]; unfold rg; omega⟩
    simp only [↓gI_b, ↓gR_b, ↓pI_b, ↓pZ_b, ↓pR_b, ↓ldI_b, ↓ldR_b, ↓stI_b, ↓stZ_b, ↓stR_b, zk_eq, sh_wI, sh_wR, rF_wI, iF_wR, ms30 h, ms31 h, ms32 h, ms33 h, ms34 h, ms35 h, ms36 h, ms37 h, ms38 h, ms39 h, ms40 h, ms41 h, ms42 h, ms43 h, ms44 h, ms45 h, ms46 h, ms47 h, ms48 h, ms49 h, ms50 h, mr0 h, mr1 h, mr2 h, mr3 h, mr4 h, mr5 h, mr6 h, mr7 h, mr8 h, mr9 h, mr10 h, mr11 h, mr12 h, mr13 h, mr14 h, mr15 h, mr16 h, mr17 h, mr18 h, mr19 h, true_and, and_true, and_self, ↓reduceIte, Int.toNat_natCast, Int.natCast_nonneg, Nat.reduceLT, Nat.reduceLeDiff, Nat.reduceEqDiff, ne_eq, not_false_eq_true, Nat.reduceAdd, reduceCtorEq, Int.reduceLT, Int.reduceLE, Int.reduceToNat, e2, e3, e6, c, es]
theorem m_lies (h : mSh M) (hG : RG M) (hB : mB N sn mem l0 l1 l2 M) {e : Nat} (he : e < N) {l k : Int} (hl : l = -1 ∨ l = 0 ∨ l = 1 ∨ l = 2) (hk : rg k) : f_Md_lies 30 (e : Int) l k M = some (if lieB M l k e = true then 1 else 0, M) := by
  have hN2 := hB.2.1
  have e2 : (e : Int) < 4096 := by omega
  have e3 : e < 520 := by omega
  have rl : rg l := by unfold rg; omega
  have e6 := zeq_iff (hG 36 e) rl
  have e7 := zeq_iff rl rgm1
  unfold f_Md_lies lieB
  by_cases c : iF M 36 e = l
  · by_cases c2 : l = -1
    · subst c2
      have z : zeq (-1) (-1) := rfl
      simp only [↓gI_b, ↓gR_b, ↓pI_b, ↓pZ_b, ↓pR_b, ↓ldI_b, ↓ldR_b, ↓stI_b, ↓stZ_b, ↓stR_b, zk_eq, sh_wI, sh_wR, rF_wI, iF_wR, ms30 h, ms31 h, ms32 h, ms33 h, ms34 h, ms35 h, ms36 h, ms37 h, ms38 h, ms39 h, ms40 h, ms41 h, ms42 h, ms43 h, ms44 h, ms45 h, ms46 h, ms47 h, ms48 h, ms49 h, ms50 h, mr0 h, mr1 h, mr2 h, mr3 h, mr4 h, mr5 h, mr6 h, mr7 h, mr8 h, mr9 h, mr10 h, mr11 h, mr12 h, mr13 h, mr14 h, mr15 h, mr16 h, mr17 h, mr18 h, mr19 h, true_and, and_true, and_self, ↓reduceIte, Int.toNat_natCast, Int.natCast_nonneg, Nat.reduceLT, Nat.reduceLeDiff, Nat.reduceEqDiff, ne_eq, not_false_eq_true, Nat.reduceAdd, reduceCtorEq, Int.reduceLT, Int.reduceLE, Int.reduceToNat, e2, e3, c, z, BEq.rfl, Bool.true_or, Bool.and_true]
    · obtain ⟨t1, t2⟩ := m_tableOf h hG hB he (by omega)
      have e8 := zeq_iff t2 hk
      have cm : (l == -1) = false := by simpa using c2
      by_cases c3 : tof M e = k
      · have : (tof M e == k) = true := by simpa using c3
        have z : zeq l l := rfl
        simp only [↓gI_b, ↓gR_b, ↓pI_b, ↓pZ_b, ↓pR_b, ↓ldI_b, ↓ldR_b, ↓stI_b, ↓stZ_b, ↓stR_b, zk_eq, sh_wI, sh_wR, rF_wI, iF_wR, ms30 h, ms31 h, ms32 h, ms33 h, ms34 h, ms35 h, ms36 h, ms37 h, ms38 h, ms39 h, ms40 h, ms41 h, ms42 h, ms43 h, ms44 h, ms45 h, ms46 h, ms47 h, ms48 h, ms49 h, ms50 h, mr0 h, mr1 h, mr2 h, mr3 h, mr4 h, mr5 h, mr6 h, mr7 h, mr8 h, mr9 h, mr10 h, mr11 h, mr12 h, mr13 h, mr14 h, mr15 h, mr16 h, mr17 h, mr18 h, mr19 h, true_and, and_true, and_self, ↓reduceIte, Int.toNat_natCast, Int.natCast_nonneg, Nat.reduceLT, Nat.reduceLeDiff, Nat.reduceEqDiff, ne_eq, not_false_eq_true, Nat.reduceAdd, reduceCtorEq, Int.reduceLT, Int.reduceLE, Int.reduceToNat, e2, e3, e6, e7, c, c2, ↓zb2_of t1, e8, eq_true c3, this, cm, BEq.rfl, Bool.false_or, Bool.and_true, z]
      · have : (tof M e == k) = false := by simpa using c3
        have z : zeq l l := rfl
        simp only [↓gI_b, ↓gR_b, ↓pI_b, ↓pZ_b, ↓pR_b, ↓ldI_b, ↓ldR_b, ↓stI_b, ↓stZ_b, ↓stR_b, zk_eq, sh_wI, sh_wR, rF_wI, iF_wR, ms30 h, ms31 h, ms32 h, ms33 h, ms34 h, ms35 h, ms36 h, ms37 h, ms38 h, ms39 h, ms40 h, ms41 h, ms42 h, ms43 h, ms44 h, ms45 h, ms46 h, ms47 h, ms48 h, ms49 h, ms50 h, mr0 h, mr1 h, mr2 h, mr3 h, mr4 h, mr5 h, mr6 h, mr7 h, mr8 h, mr9 h, mr10 h, mr11 h, mr12 h, mr13 h, mr14 h, mr15 h, mr16 h, mr17 h, mr18 h, mr19 h, true_and, and_true, and_self, ↓reduceIte, Int.toNat_natCast, Int.natCast_nonneg, Nat.reduceLT, Nat.reduceLeDiff, Nat.reduceEqDiff, ne_eq, not_false_eq_true, Nat.reduceAdd, reduceCtorEq, Int.reduceLT, Int.reduceLE, Int.reduceToNat, e2, e3, e6, e7, c, c2, ↓zb2_of t1, e8, c3, this, cm, BEq.rfl, Bool.false_or, Bool.and_false, Bool.false_eq_true, z]
  · have : (iF M 36 e == l) = false := by simpa using c
    simp only [↓gI_b, ↓gR_b, ↓pI_b, ↓pZ_b, ↓pR_b, ↓ldI_b, ↓ldR_b, ↓stI_b, ↓stZ_b, ↓stR_b, zk_eq, sh_wI, sh_wR, rF_wI, iF_wR, ms30 h, ms31 h, ms32 h, ms33 h, ms34 h, ms35 h, ms36 h, ms37 h, ms38 h, ms39 h, ms40 h, ms41 h, ms42 h, ms43 h, ms44 h, ms45 h, ms46 h, ms47 h, ms48 h, ms49 h, ms50 h, mr0 h, mr1 h, mr2 h, mr3 h, mr4 h, mr5 h, mr6 h, mr7 h, mr8 h, mr9 h, mr10 h, mr11 h, mr12 h, mr13 h, mr14 h, mr15 h, mr16 h, mr17 h, mr18 h, mr19 h, true_and, and_true, and_self, ↓reduceIte, Int.toNat_natCast, Int.natCast_nonneg, Nat.reduceLT, Nat.reduceLeDiff, Nat.reduceEqDiff, ne_eq, not_false_eq_true, Nat.reduceAdd, reduceCtorEq, Int.reduceLT, Int.reduceLE, Int.reduceToNat, e2, e3, e6, c, this, Bool.false_and, Bool.false_eq_true]
/-- how many tables a level has -/
def nT (l0 : List (List En)) (l1 l2 : List En) (l : Int) : Nat := if l = 0 then l0.length else if l = 1 then (chk l1).length else (chk l2).length
theorem m_tables (hA : mA time sn bt seen pr tl us un M) (hB : mB N sn mem l0 l1 l2 M) (h4 : l0.length ≤ 4) {l : Int} (hl : l = 0 ∨ l = 1 ∨ l = 2) : f_Md_tables 30 l M = some ((nT l0 l1 l2 l : Int), M) ∧ nT l0 l1 l2 l ≤ 520 := by
  have hC := hB.C
  obtain ⟨h, hG, -⟩ := mA_iff.mp hA
  have hz := fun k hk => hC.size hA (k := k) hk
  obtain ⟨b1, b2, b3, b4, b5, b6, b7, b8, b9, b10, b11, b12, b13, b14, b15⟩ := hB
  have hle : ∀ k, (lvE M N k).length ≤ N := fun k => ent_le
  unfold f_Md_tables nT
  rcases hl with rfl | rfl | rfl
  · have z : zeq 0 0 := rfl
    refine ⟨?_, by rw [if_pos rfl]; omega⟩
    simp only [↓gI_b, ↓gR_b, ↓pI_b, ↓pZ_b, ↓pR_b, ↓ldI_b, ↓ldR_b, ↓stI_b, ↓stZ_b, ↓stR_b, zk_eq, sh_wI, sh_wR, rF_wI, iF_wR, ms30 h, ms31 h, ms32 h, ms33 h, ms34 h, ms35 h, ms36 h, ms37 h, ms38 h, ms39 h, ms40 h, ms41 h, ms42 h, ms43 h, ms44 h, ms45 h, ms46 h, ms47 h, ms48 h, ms49 h, ms50 h, mr0 h, mr1 h, mr2 h, mr3 h, mr4 h, mr5 h, mr6 h, mr7 h, mr8 h, mr9 h, mr10 h, mr11 h, mr12 h, mr13 h, mr14 h, mr15 h, mr16 h, mr17 h, mr18 h, mr19 h, true_and, and_true, and_self, ↓reduceIte, Int.toNat_natCast, Int.natCast_nonneg, Nat.reduceLT, Nat.reduceLeDiff, Nat.reduceEqDiff, ne_eq, not_false_eq_true, Nat.reduceAdd, reduceCtorEq, Int.reduceLT, Int.reduceLE, Int.reduceToNat, z, b10]
  · have z : ¬ zeq 1 0 := by decide
    have hs := hz 1 rg1
    have hl1 := b8.length_eq
    have := hle 1
    have e1 : zadd ((lvE M N 1).length : Int) 5 = (lvE M N 1).length + 5 := zadd_eq (by omega) (by omega)
    have e2 : zdiv ((lvE M N 1).length + 5) 6 = (((lvE M N 1).length + 5) / 6 : Nat) := by rw [zdiv_eq (by unfold rg; omega) (by unfold rg; omega) (by omega) (by omega)]; omega
    refine ⟨?_, by rw [if_neg (by decide), if_pos rfl, chk_len]; omega⟩
    rw [if_neg (show ¬ ((1 : Int) = 0) by decide), if_pos (show (1 : Int) = 1 from rfl), chk_len, hl1]
    simp only [↓gI_b, ↓gR_b, ↓pI_b, ↓pZ_b, ↓pR_b, ↓ldI_b, ↓ldR_b, ↓stI_b, ↓stZ_b, ↓stR_b, zk_eq, sh_wI, sh_wR, rF_wI, iF_wR, ms30 h, ms31 h, ms32 h, ms33 h, ms34 h, ms35 h, ms36 h, ms37 h, ms38 h, ms39 h, ms40 h, ms41 h, ms42 h, ms43 h, ms44 h, ms45 h, ms46 h, ms47 h, ms48 h, ms49 h, ms50 h, mr0 h, mr1 h, mr2 h, mr3 h, mr4 h, mr5 h, mr6 h, mr7 h, mr8 h, mr9 h, mr10 h, mr11 h, mr12 h, mr13 h, mr14 h, mr15 h, mr16 h, mr17 h, mr18 h, mr19 h, true_and, and_true, and_self, ↓reduceIte, Int.toNat_natCast, Int.natCast_nonneg, Nat.reduceLT, Nat.reduceLeDiff, Nat.reduceEqDiff, ne_eq, not_false_eq_true, Nat.reduceAdd, reduceCtorEq, Int.reduceLT, Int.reduceLE, Int.reduceToNat, z, ↓zb2_of hs, e1, e2]
  · have z : ¬ zeq 2 0 := by decide
    have hs := hz 2 rg2
    have hl1 := b9.length_eq
    have := hle 2
    have e1 : zadd ((lvE M N 2).length : Int) 5 = (lvE M N 2).length + 5 := zadd_eq (by omega) (by omega)
    have e2 : zdiv ((lvE M N 2).length + 5) 6 = (((lvE M N 2).length + 5) / 6 : Nat) := by rw [zdiv_eq (by unfold rg; omega) (by unfold rg; omega) (by omega) (by omega)]; omega
    refine ⟨?_, by rw [if_neg (by decide), if_neg (by decide), chk_len]; omega⟩
    rw [if_neg (show ¬ ((2 : Int) = 0) by decide), if_neg (show ¬ ((2 : Int) = 1) by decide), chk_len, hl1]
    simp only [↓gI_b, ↓gR_b, ↓pI_b, ↓pZ_b, ↓pR_b, ↓ldI_b, ↓ldR_b, ↓stI_b, ↓stZ_b, ↓stR_b, zk_eq, sh_wI, sh_wR, rF_wI, iF_wR, ms30 h, ms31 h, ms32 h, ms33 h, ms34 h, ms35 h, ms36 h, ms37 h, ms38 h, ms39 h, ms40 h, ms41 h, ms42 h, ms43 h, ms44 h, ms45 h, ms46 h, ms47 h, ms48 h, ms49 h, ms50 h, mr0 h, mr1 h, mr2 h, mr3 h, mr4 h, mr5 h, mr6 h, mr7 h, mr8 h, mr9 h, mr10 h, mr11 h, mr12 h, mr13 h, mr14 h, mr15 h, mr16 h, mr17 h, mr18 h, mr19 h, true_and, and_true, and_self, ↓reduceIte, Int.toNat_natCast, Int.natCast_nonneg, Nat.reduceLT, Nat.reduceLeDiff, Nat.reduceEqDiff, ne_eq, not_false_eq_true, Nat.reduceAdd, reduceCtorEq, Int.reduceLT, Int.reduceLE, Int.reduceToNat, z, ↓zb2_of hs, e1, e2]
theorem m_isView (hA : mA time sn bt seen pr tl us un M) {s : Int} (hs : rg s) : f_Md_isView 30 s M = some (if isV seen s = true then 1 else 0, M) := by
  obtain ⟨h, hG, a1, a2, a3, a4, a5, a6, a7⟩ := mA_iff.mp hA
  unfold f_Md_isView isV
  have e1 := zeq_iff hs rgm1
  have e2 := zlt_iff hs rg0
  have e3 := zle_iff (x := 3) (by unfold rg; omega) hs
  by_cases c1 : s = -1
  · simp only [↓gI_b, ↓gR_b, ↓pI_b, ↓pZ_b, ↓pR_b, ↓ldI_b, ↓ldR_b, ↓stI_b, ↓stZ_b, ↓stR_b, zk_eq, sh_wI, sh_wR, rF_wI, iF_wR, ms30 h, ms31 h, ms32 h, ms33 h, ms34 h, ms35 h, ms36 h, ms37 h, ms38 h, ms39 h, ms40 h, ms41 h, ms42 h, ms43 h, ms44 h, ms45 h, ms46 h, ms47 h, ms48 h, ms49 h, ms50 h, mr0 h, mr1 h, mr2 h, mr3 h, mr4 h, mr5 h, mr6 h, mr7 h, mr8 h, mr9 h, mr10 h, mr11 h, mr12 h, mr13 h, mr14 h, mr15 h, mr16 h, mr17 h, mr18 h, mr19 h, true_and, and_true, and_self, ↓reduceIte, Int.toNat_natCast, Int.natCast_nonneg, Nat.reduceLT, Nat.reduceLeDiff, Nat.reduceEqDiff, ne_eq, not_false_eq_true, Nat.reduceAdd, reduceCtorEq, Int.reduceLT, Int.reduceLE, Int.reduceToNat, e1, c1, eq_true c1, BEq.rfl, Bool.true_or]
  have b1 : (s == -1) = false := by simpa using c1
  by_cases c2 : s < 0
  · have : ¬ 0 ≤ s := by omega
    simp only [↓gI_b, ↓gR_b, ↓pI_b, ↓pZ_b, ↓pR_b, ↓ldI_b, ↓ldR_b, ↓stI_b, ↓stZ_b, ↓stR_b, zk_eq, sh_wI, sh_wR, rF_wI, iF_wR, ms30 h, ms31 h, ms32 h, ms33 h, ms34 h, ms35 h, ms36 h, ms37 h, ms38 h, ms39 h, ms40 h, ms41 h, ms42 h, ms43 h, ms44 h, ms45 h, ms46 h, ms47 h, ms48 h, ms49 h, ms50 h, mr0 h, mr1 h, mr2 h, mr3 h, mr4 h, mr5 h, mr6 h, mr7 h, mr8 h, mr9 h, mr10 h, mr11 h, mr12 h, mr13 h, mr14 h, mr15 h, mr16 h, mr17 h, mr18 h, mr19 h, true_and, and_true, and_self, ↓reduceIte, Int.toNat_natCast, Int.natCast_nonneg, Nat.reduceLT, Nat.reduceLeDiff, Nat.reduceEqDiff, ne_eq, not_false_eq_true, Nat.reduceAdd, reduceCtorEq, Int.reduceLT, Int.reduceLE, Int.reduceToNat, e1, c1, e2, c2, b1, this, decide_false, Bool.false_and, Bool.or_false, Bool.false_eq_true]
  by_cases c3 : 3 ≤ s
  · have : ¬ s < 3 := by omega
    simp only [↓gI_b, ↓gR_b, ↓pI_b, ↓pZ_b, ↓pR_b, ↓ldI_b, ↓ldR_b, ↓stI_b, ↓stZ_b, ↓stR_b, zk_eq, sh_wI, sh_wR, rF_wI, iF_wR, ms30 h, ms31 h, ms32 h, ms33 h, ms34 h, ms35 h, ms36 h, ms37 h, ms38 h, ms39 h, ms40 h, ms41 h, ms42 h, ms43 h, ms44 h, ms45 h, ms46 h, ms47 h, ms48 h, ms49 h, ms50 h, mr0 h, mr1 h, mr2 h, mr3 h, mr4 h, mr5 h, mr6 h, mr7 h, mr8 h, mr9 h, mr10 h, mr11 h, mr12 h, mr13 h, mr14 h, mr15 h, mr16 h, mr17 h, mr18 h, mr19 h, true_and, and_true, and_self, ↓reduceIte, Int.toNat_natCast, Int.natCast_nonneg, Nat.reduceLT, Nat.reduceLeDiff, Nat.reduceEqDiff, ne_eq, not_false_eq_true, Nat.reduceAdd, reduceCtorEq, Int.reduceLT, Int.reduceLE, Int.reduceToNat, e1, c1, e2, c2, e3, c3, b1, this, decide_false, Bool.false_and, Bool.and_false, Bool.or_false, Bool.false_eq_true]
  obtain ⟨j, rfl⟩ : ∃ j : Nat, s = (j : Int) := ⟨s.toNat, by omega⟩
  have hj : j < 3 := by omega
  have hj2 : (j : Int) < 4096 := by omega
  have hj3 : (j : Int) < 3 := by omega
  have e4 := zeq_iff (hG 45 j) rg0
  have e5 := a5.neg hj
  by_cases c4 : iF M 45 j = 0
  · have c5 : ¬ 0 ≤ seen.getD j (-1) := by have := e5.mp c4; omega
    simp only [↓gI_b, ↓gR_b, ↓pI_b, ↓pZ_b, ↓pR_b, ↓ldI_b, ↓ldR_b, ↓stI_b, ↓stZ_b, ↓stR_b, zk_eq, sh_wI, sh_wR, rF_wI, iF_wR, ms30 h, ms31 h, ms32 h, ms33 h, ms34 h, ms35 h, ms36 h, ms37 h, ms38 h, ms39 h, ms40 h, ms41 h, ms42 h, ms43 h, ms44 h, ms45 h, ms46 h, ms47 h, ms48 h, ms49 h, ms50 h, mr0 h, mr1 h, mr2 h, mr3 h, mr4 h, mr5 h, mr6 h, mr7 h, mr8 h, mr9 h, mr10 h, mr11 h, mr12 h, mr13 h, mr14 h, mr15 h, mr16 h, mr17 h, mr18 h, mr19 h, true_and, and_true, and_self, ↓reduceIte, Int.toNat_natCast, Int.natCast_nonneg, Nat.reduceLT, Nat.reduceLeDiff, Nat.reduceEqDiff, ne_eq, not_false_eq_true, Nat.reduceAdd, reduceCtorEq, Int.reduceLT, Int.reduceLE, Int.reduceToNat, e1, c1, e2, c2, e3, c3, b1, hj, hj2, hj3, e4, eq_true c4, c5, decide_false, decide_true, Bool.false_and, Bool.and_false, Bool.or_false, Bool.false_eq_true]
  · have c5 : 0 ≤ seen.getD j (-1) := by
      rcases Int.lt_or_le (seen.getD j (-1)) 0 with q | q
      · exact absurd (e5.mpr q) c4
      · exact q
    simp only [↓gI_b, ↓gR_b, ↓pI_b, ↓pZ_b, ↓pR_b, ↓ldI_b, ↓ldR_b, ↓stI_b, ↓stZ_b, ↓stR_b, zk_eq, sh_wI, sh_wR, rF_wI, iF_wR, ms30 h, ms31 h, ms32 h, ms33 h, ms34 h, ms35 h, ms36 h, ms37 h, ms38 h, ms39 h, ms40 h, ms41 h, ms42 h, ms43 h, ms44 h, ms45 h, ms46 h, ms47 h, ms48 h, ms49 h, ms50 h, mr0 h, mr1 h, mr2 h, mr3 h, mr4 h, mr5 h, mr6 h, mr7 h, mr8 h, mr9 h, mr10 h, mr11 h, mr12 h, mr13 h, mr14 h, mr15 h, mr16 h, mr17 h, mr18 h, mr19 h, true_and, and_true, and_self, ↓reduceIte, Int.toNat_natCast, Int.natCast_nonneg, Nat.reduceLT, Nat.reduceLeDiff, Nat.reduceEqDiff, ne_eq, not_false_eq_true, Nat.reduceAdd, reduceCtorEq, Int.reduceLT, Int.reduceLE, Int.reduceToNat, e1, c1, e2, c2, e3, c3, b1, hj, hj2, hj3, e4, c4, c5, decide_true, Bool.and_true, Bool.false_or]
theorem m_isSeen (hA : mA time sn bt seen pr tl us un M) {s : Int} (hv : isV seen s = true) {e : Nat} (he : e < 520) : f_Md_isSeen 30 (e : Int) s M = some (if iF M 32 e ≤ mst seen s then 1 else 0, M) := by
  obtain ⟨h, hG, a1, a2, a3, a4, a5, a6, a7⟩ := mA_iff.mp hA
  have e2 : (e : Int) < 4096 := by omega
  unfold isV at hv
  unfold f_Md_isSeen mst
  by_cases c : s < 0
  · simp only [Bool.or_eq_true, Bool.and_eq_true, beq_iff_eq, decide_eq_true_eq] at hv
    have hs : s = -1 := by omega
    subst hs
    have z : zlt (-1) 0 := by decide
    have hr := (hG 32 e).2
    rw [if_pos (show (-1 : Int) < 0 by decide), if_pos hr]
    simp only [↓gI_b, ↓gR_b, ↓pI_b, ↓pZ_b, ↓pR_b, ↓ldI_b, ↓ldR_b, ↓stI_b, ↓stZ_b, ↓stR_b, zk_eq, sh_wI, sh_wR, rF_wI, iF_wR, ms30 h, ms31 h, ms32 h, ms33 h, ms34 h, ms35 h, ms36 h, ms37 h, ms38 h, ms39 h, ms40 h, ms41 h, ms42 h, ms43 h, ms44 h, ms45 h, ms46 h, ms47 h, ms48 h, ms49 h, ms50 h, mr0 h, mr1 h, mr2 h, mr3 h, mr4 h, mr5 h, mr6 h, mr7 h, mr8 h, mr9 h, mr10 h, mr11 h, mr12 h, mr13 h, mr14 h, mr15 h, mr16 h, mr17 h, mr18 h, mr19 h, true_and, and_true, and_self, ↓reduceIte, Int.toNat_natCast, Int.natCast_nonneg, Nat.reduceLT, Nat.reduceLeDiff, Nat.reduceEqDiff, ne_eq, not_false_eq_true, Nat.reduceAdd, reduceCtorEq, Int.reduceLT, Int.reduceLE, Int.reduceToNat, z]
  · simp only [Bool.or_eq_true, Bool.and_eq_true, beq_iff_eq, decide_eq_true_eq] at hv
    obtain ⟨j, rfl⟩ : ∃ j : Nat, s = (j : Int) := ⟨s.toNat, by omega⟩
    simp only [Int.toNat_natCast] at hv ⊢
    have hj : j < 3 := by omega
    have hj2 : (j : Int) < 4096 := by omega
    have hg := a5.get hj
    have hsv : seen.getD j (-1) = iF M 46 j := by
      have h0 : 0 ≤ seen.getD j (-1) := by omega
      rw [hg] at h0 ⊢
      unfold sv at h0 ⊢
      by_cases c4 : iF M 45 j = 0
      · rw [if_pos c4] at h0; omega
      · rw [if_neg c4]
    have z : ¬ zlt (j : Int) 0 := fun q => by have := (zlt_iff (rgN (by omega)) rg0).mp q; omega
    have e4 := zlt_iff (hG 46 j) (hG 32 e)
    rw [if_neg c, hsv]
    by_cases c5 : iF M 46 j < iF M 32 e
    · have : ¬ iF M 32 e ≤ iF M 46 j := by omega
      simp only [↓gI_b, ↓gR_b, ↓pI_b, ↓pZ_b, ↓pR_b, ↓ldI_b, ↓ldR_b, ↓stI_b, ↓stZ_b, ↓stR_b, zk_eq, sh_wI, sh_wR, rF_wI, iF_wR, ms30 h, ms31 h, ms32 h, ms33 h, ms34 h, ms35 h, ms36 h, ms37 h, ms38 h, ms39 h, ms40 h, ms41 h, ms42 h, ms43 h, ms44 h, ms45 h, ms46 h, ms47 h, ms48 h, ms49 h, ms50 h, mr0 h, mr1 h, mr2 h, mr3 h, mr4 h, mr5 h, mr6 h, mr7 h, mr8 h, mr9 h, mr10 h, mr11 h, mr12 h, mr13 h, mr14 h, mr15 h, mr16 h, mr17 h, mr18 h, mr19 h, true_and, and_true, and_self, ↓reduceIte, Int.toNat_natCast, Int.natCast_nonneg, Nat.reduceLT, Nat.reduceLeDiff, Nat.reduceEqDiff, ne_eq, not_false_eq_true, Nat.reduceAdd, reduceCtorEq, Int.reduceLT, Int.reduceLE, Int.reduceToNat, z, e2, he, hj, hj2, e4, c5, this]
    · have : iF M 32 e ≤ iF M 46 j := by omega
      simp only [↓gI_b, ↓gR_b, ↓pI_b, ↓pZ_b, ↓pR_b, ↓ldI_b, ↓ldR_b, ↓stI_b, ↓stZ_b, ↓stR_b, zk_eq, sh_wI, sh_wR, rF_wI, iF_wR, ms30 h, ms31 h, ms32 h, ms33 h, ms34 h, ms35 h, ms36 h, ms37 h, ms38 h, ms39 h, ms40 h, ms41 h, ms42 h, ms43 h, ms44 h, ms45 h, ms46 h, ms47 h, ms48 h, ms49 h, ms50 h, mr0 h, mr1 h, mr2 h, mr3 h, mr4 h, mr5 h, mr6 h, mr7 h, mr8 h, mr9 h, mr10 h, mr11 h, mr12 h, mr13 h, mr14 h, mr15 h, mr16 h, mr17 h, mr18 h, mr19 h, true_and, and_true, and_self, ↓reduceIte, Int.toNat_natCast, Int.natCast_nonneg, Nat.reduceLT, Nat.reduceLeDiff, Nat.reduceEqDiff, ne_eq, not_false_eq_true, Nat.reduceAdd, reduceCtorEq, Int.reduceLT, Int.reduceLE, Int.reduceToNat, z, e2, he, hj, hj2, e4, c5, this]
end MD22
