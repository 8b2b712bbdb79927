-- the model's readers: a search
theorem i32_sh : ∀ n : Fin 32, ((Int32.ofInt (n.val : Int) &&& 31).toBitVec.smod 32).toNat = n.val := by decide
theorem i32_bit (F : Int32) {n : Nat} (hn : n < 32) : (F >>> (Int32.ofInt (n : Int) &&& 31)) &&& 1 = 1 ↔ F.toBitVec.getLsbD n = true := by
  have hs := i32_sh ⟨n, hn⟩
  simp only at hs
  rw [← Int32.toBitVec_inj]
  show (F.toBitVec.sshiftRight' ((Int32.ofInt (n : Int) &&& 31).toBitVec.smod 32)) &&& 1#32 = 1#32 ↔ _
  have h0 : (F.toBitVec.sshiftRight' ((Int32.ofInt (n : Int) &&& 31).toBitVec.smod 32)).getLsbD 0 = F.toBitVec.getLsbD n := by
    rw [BitVec.getLsbD_sshiftRight', hs]
    simp [hn]
  generalize F.toBitVec.sshiftRight' ((Int32.ofInt (n : Int) &&& 31).toBitVec.smod 32) = G at h0
  rw [← h0]
  constructor
  · intro h
    have := congrArg (fun q => q.getLsbD 0) h
    simpa using this
  · intro h
    apply BitVec.eq_of_getLsbD_eq
    intro i hi
    rw [BitVec.getLsbD_and, BitVec.getLsbD_one]
    by_cases c : i = 0
    · subst c; simp [h]
    · simp [c]
theorem i32_one {n : Nat} (hn : n < 32) (i : Nat) (hi : i < 32) : ((1 : Int32) <<< (Int32.ofInt (n : Int) &&& 31)).toBitVec.getLsbD i = decide (i = n) := by
  have hs := i32_sh ⟨n, hn⟩
  simp only at hs
  show (1#32 <<< ((Int32.ofInt (n : Int) &&& 31).toBitVec.smod 32)).getLsbD i = _
  rw [BitVec.getLsbD_shiftLeft', hs, BitVec.getLsbD_one]
  by_cases c : i = n
  · subst c; simp [hi]
  · by_cases c2 : i < n
    · simp [c, c2]
    · have : i - n ≠ 0 := by omega
      simp [c, this]
theorem i32_two (F : Int32) {a b : Nat} (ha : a < 32) (hb : b < 32) : F &&& ((1 : Int32) <<< (Int32.ofInt (a : Int) &&& 31) ||| (1 : Int32) <<< (Int32.ofInt (b : Int) &&& 31)) = ((1 : Int32) <<< (Int32.ofInt (a : Int) &&& 31) ||| (1 : Int32) <<< (Int32.ofInt (b : Int) &&& 31)) ↔ F.toBitVec.getLsbD a = true ∧ F.toBitVec.getLsbD b = true := by
  have h1 := i32_one ha
  have h2 := i32_one hb
  generalize (1 : Int32) <<< (Int32.ofInt (a : Int) &&& 31) = A at h1
  generalize (1 : Int32) <<< (Int32.ofInt (b : Int) &&& 31) = B at h2
  rw [← Int32.toBitVec_inj]
  show F.toBitVec &&& (A.toBitVec ||| B.toBitVec) = (A.toBitVec ||| B.toBitVec) ↔ _
  constructor
  · intro h
    constructor
    · have := congrArg (fun q => q.getLsbD a) h
      simp only [BitVec.getLsbD_and, BitVec.getLsbD_or, h1 a ha] at this
      simpa using this
    · have := congrArg (fun q => q.getLsbD b) h
      simp only [BitVec.getLsbD_and, BitVec.getLsbD_or, h2 b hb] at this
      simpa using this
  · intro h
    apply BitVec.eq_of_getLsbD_eq
    intro i hi
    rw [BitVec.getLsbD_and, BitVec.getLsbD_or, h1 i hi, h2 i hi]
    by_cases c1 : i = a
    · subst c1; simp [h.1]
    · by_cases c2 : i = b
      · subst c2; simp [h.2]
      · simp [c1, c2]
theorem kb_bits {F k : Int} (hk : isK k = true) : (zeq (zand (zshr F (zrem (zadd (zmul 5 k) 1) 32)) 1) 1 ∧ zeq (zand (zshr F (zrem (zadd (zmul 11 k) 7) 32)) 1) 1) ↔ zand F (kb k) = kb k := by
  unfold isK at hk
  simp only [Bool.and_eq_true, decide_eq_true_eq] at hk
  obtain ⟨a, ha, ea⟩ : ∃ a : Nat, a < 32 ∧ zrem (zadd (zmul 5 k) 1) 32 = (a : Int) := by
    have e1 : zmul 5 k = 5 * k := zmul_eq (by omega) (by omega)
    have e2 : zadd (5 * k) 1 = 5 * k + 1 := zadd_eq (by omega) (by omega)
    rw [e1, e2, zrem_eq (by unfold rg; omega) (by unfold rg; omega) (by omega) (by omega)]
    exact ⟨((5 * k + 1) % 32).toNat, by omega, by omega⟩
  obtain ⟨b, hb, eb⟩ : ∃ a : Nat, a < 32 ∧ zrem (zadd (zmul 11 k) 7) 32 = (a : Int) := by
    have e1 : zmul 11 k = 11 * k := zmul_eq (by omega) (by omega)
    have e2 : zadd (11 * k) 7 = 11 * k + 7 := zadd_eq (by omega) (by omega)
    rw [e1, e2, zrem_eq (by unfold rg; omega) (by unfold rg; omega) (by omega) (by omega)]
    exact ⟨((11 * k + 7) % 32).toNat, by omega, by omega⟩
  unfold kb
  rw [ea, eb]
  unfold zeq zand zshr zor zshl
  simp only [Int32.ofInt_toInt]
  have e1 : Int32.ofInt 1 = 1 := rfl
  rw [e1, i32_bit _ ha, i32_bit _ hb, ← i32_two _ ha hb]
  constructor
  · intro h
    rw [h]
  · intro h
    have := congrArg Int32.ofInt h
    simpa only [Int32.ofInt_toInt] using this
theorem flt_rg (t : List En) : rg (flt t) := by
  by_cases c : t = []
  · subst c; exact rg0
  · obtain ⟨s, a, rfl⟩ := ne_appE c
    unfold flt
    rw [List.foldl_append]
    exact rg_or _ _
def lvT (l0 : List (List En)) (l1 l2 : List En) (l : Int) : List (List En) := if l = 0 then l0 else if l = 1 then chk l1 else chk l2
/-- what a search through one more level makes of what was found -/
def nxt (k m : Int) (q : Int × Option En) (ts : List (List En)) : Int × Option En := match q.2 with
  | some e => (q.1, some e)
  | none => (q.1 + (srch k m ts).1, (srch k m ts).2)
theorem srch_app (k m : Int) : ∀ (A B : List (List En)), srch k m (A ++ B) = nxt k m (srch k m A) B
  | [], B => by
    show srch k m B = (0 + (srch k m B).1, (srch k m B).2)
    rw [Int.zero_add]
  | t :: A, B => by
    have ih := srch_app k m A B
    show srch k m (t :: (A ++ B)) = _
    conv => lhs; unfold srch
    conv => rhs; unfold srch
    by_cases c : may t k = true
    · rw [if_pos c, if_pos c]
      cases e : best t k m with
      | some x => rfl
      | none =>
        simp only
        rw [ih]
        unfold nxt
        cases e2 : (srch k m A).2 with
        | some x => simp only
        | none => simp only [Int.add_assoc]
    · rw [if_neg c, if_neg c, ih]
theorem srch_le (k m : Int) : ∀ (A : List (List En)), 0 ≤ (srch k m A).1 ∧ (srch k m A).1 ≤ A.length
  | [] => by simp [srch]
  | t :: A => by
    have ih := srch_le k m A
    unfold srch
    rw [List.length_cons]
    by_cases c : may t k = true
    · rw [if_pos c]
      cases e : best t k m with
      | some x => simp only; omega
      | none => simp only; omega
    · rw [if_neg c]; omega
/-- what is found, as a place -/
def FndR (N : Nat) (w : Int) (o : Option En) (Q : zHp) : Prop := (w = -1 ∧ o = none) ∨ ∃ b : Nat, b < N ∧ iF Q 36 b ≠ 9 ∧ w = (b : Int) ∧ o = some (me Q b)
section MD24
variable {M : zHp} {N : Nat} {time sn : Int} {bt : List Bt} {seen : List Int} {pr tl : Int} {us vs : List Int} {u : Int} {un : List Un} {mem : List En} {l0 : List (List En)} {l1 l2 : List En}
theorem mA.prb (hA : mA time sn bt seen pr tl us un M) {x : Int} (hx : rg x) : mA time sn bt seen x tl us un (wI M 30 9 x) := by
  obtain ⟨h, hG, a1, a2, a3, a4, a5, a6, a7⟩ := mA_iff.mp hA
  refine mA_iff.mpr ⟨mSh_wI h, RG_wI hG hx, by rw [wI30 (by decide)]; exact a1, by rw [wI30 (by decide)]; exact a2, wI30s h (by decide), a4.cg (wI30 (by decide)) (fun k => wIq (by decide)) (fun k => wIq (by decide)) (fun k => wIq (by decide)), a5.cg (fun k => wIq (by decide)) (fun k => wIq (by decide)), a6.cg (wI30 (by decide)) (wI30 (by decide)) (fun k => wIq (by decide)), a7.cg (wI30 (by decide)) (fun k => wIq (by decide)) (fun k => wIq (by decide)) (fun k => wIq (by decide))⟩
theorem mB.prb (hB : mB N sn mem l0 l1 l2 M) {x : Int} : mB N sn mem l0 l1 l2 (wI M 30 9 x) := hB.cg (wI30 (by decide)) (wI30 (by decide)) (wI30 (by decide)) (fun q k h1 h2 => wIq (by omega))
theorem may_iff {t : List En} {k : Int} : may t k = true ↔ hdK t ≤ k ∧ k ≤ laK t ∧ zand (flt t) (kb k) = kb k := by
  unfold may
  simp only [Bool.and_eq_true, decide_eq_true_eq, and_assoc]
theorem m_may (hA : mA time sn bt seen pr tl us un M) (hB : mB N sn mem l0 l1 l2 M) (hS : sS mem l0 l1 l2) {l k k0 : Int} {t : List En} (hl : l = -1 ∨ l = 0 ∨ l = 1 ∨ l = 2) (hk : 0 ≤ k ∧ k ≤ 10000) (hk0 : isK k0 = true) (ht : tbl mem l0 l1 l2 l k = some t) : f_Md_may 30 l k k0 M = some (if may t k0 = true then 1 else 0, M) := by
  obtain ⟨h, hG, a1, a2, a3, a4, a5, a6, a7⟩ := mA_iff.mp hA
  have hf := m_filter hA hB hS hl hk ht
  have h0 := m_bound hA hB hS hl hk (g := 0) (Or.inl rfl) ht
  have h1 := m_bound hA hB hS hl hk (g := 1) (Or.inr rfl) ht
  rw [if_pos rfl] at h0
  rw [if_neg (by decide)] at h1
  have hbits := kb_bits (F := flt t) hk0
  have rk0 : rg k0 := by
    unfold isK at hk0
    simp only [Bool.and_eq_true, decide_eq_true_eq] at hk0
    unfold rg; omega
  have hkeys : ∀ e ∈ t, rg (eK e) := fun e he => by
    obtain ⟨j, -, -, rfl⟩ := mem_ent.mp ((hB.tbl hS hk.1 ht).mem_iff.mp he)
    rw [eK_me]; exact hG 31 j
  have rh : rg (hdK t) := by
    by_cases c : t = []
    · subst c; exact rgm1
    · obtain ⟨y, hy, e⟩ := hdK_mem c
      rw [e]; exact hkeys y hy
  have rl : rg (laK t) := by
    by_cases c : t = []
    · subst c; exact rgm1
    · obtain ⟨y, hy, e⟩ := laK_mem c
      rw [e]; exact hkeys y hy
  have e3 := zlt_iff rk0 rh
  have e4 := zlt_iff rl rk0
  unfold f_Md_may
  by_cases c1 : zeq (zand (zshr (flt t) (zrem (zadd (zmul 5 k0) 1) 32)) 1) 1
  · by_cases c2 : zeq (zand (zshr (flt t) (zrem (zadd (zmul 11 k0) 7) 32)) 1) 1
    · have hb := hbits.mp ⟨c1, c2⟩
      by_cases c3 : k0 < hdK t
      · have : ¬ may t k0 = true := fun q => by have := (may_iff.mp q).1; omega
        rw [zk_eq, ms30 h, if_pos rfl, zb2_of hf, if_pos c1, if_pos c2, zb2_of h0, if_pos (e3.mpr c3), if_neg this]
      · by_cases c4 : laK t < k0
        · have : ¬ may t k0 = true := fun q => by have := (may_iff.mp q).2.1; omega
          rw [zk_eq, ms30 h, if_pos rfl, zb2_of hf, if_pos c1, if_pos c2, zb2_of h0, if_neg (fun q => c3 (e3.mp q)), zb2_of h1, if_pos (e4.mpr c4), if_neg this]
        · have : may t k0 = true := may_iff.mpr ⟨by omega, by omega, hb⟩
          rw [zk_eq, ms30 h, if_pos rfl, zb2_of hf, if_pos c1, if_pos c2, zb2_of h0, if_neg (fun q => c3 (e3.mp q)), zb2_of h1, if_neg (fun q => c4 (e4.mp q)), if_pos this]
    · have : ¬ may t k0 = true := fun q => c2 (hbits.mpr (may_iff.mp q).2.2).2
      rw [zk_eq, ms30 h, if_pos rfl, zb2_of hf, if_pos c1, if_neg c2, if_neg this]
  · have : ¬ may t k0 = true := fun q => c1 (hbits.mpr (may_iff.mp q).2.2).1
    rw [zk_eq, ms30 h, if_pos rfl, zb2_of hf, if_neg c1, if_neg this]
theorem nT_lvT (l : Int) : nT l0 l1 l2 l = (lvT l0 l1 l2 l).length := by
  unfold nT lvT
  split
  · rfl
  · split <;> rfl
theorem tbl_lvT {l : Int} (hl : l = 0 ∨ l = 1 ∨ l = 2) (k : Nat) : tbl mem l0 l1 l2 l k = (lvT l0 l1 l2 l)[k]? := by
  unfold tbl lvT
  rcases hl with rfl | rfl | rfl <;> rfl
theorem ml_fpass (hA : mA time sn bt seen pr tl us un M) (hB : mB N sn mem l0 l1 l2 M) (h4 : l0.length ≤ 4) {l s k0 : Int} (hl : l = 0 ∨ l = 1 ∨ l = 2) {b k : Nat} (hb : b ≤ 1000) (κ : Int → zHp → Option (Int × zHp)) (n : Nat) : f_Md_find_L26 κ 30 s k0 l (n + 1) (b : Int) (k : Int) M = κ (b : Int) M := by
  obtain ⟨t1, t2⟩ := m_tables hA hB h4 hl
  unfold f_Md_find_L26
  have e1 : zle 0 (b : Int) := (zle_iff rg0 (rgN (by omega))).mpr (by omega)
  rw [zb2_of t1]
  by_cases c : zle (nT l0 l1 l2 l : Int) (k : Int)
  · rw [if_pos c]
  · rw [if_neg c, if_pos e1]
theorem ml_find26 (hS : sS mem l0 l1 l2) (h4 : l0.length ≤ 4) {l s k0 : Int} (hl : l = 0 ∨ l = 1 ∨ l = 2) (hV : isV seen s = true) (hk0 : isK k0 = true) (κ : Int → zHp → Option (Int × zHp)) :
    ∀ (ts : List (List En)) (n k : Nat) (p : Int) (P : zHp), (lvT l0 l1 l2 l).drop k = ts → k ≤ (lvT l0 l1 l2 l).length → ts.length + 1 < n → 0 ≤ p → p + ts.length ≤ 10000 → mA time sn bt seen p tl us un P → mB N sn mem l0 l1 l2 P →
      ∃ w Q, f_Md_find_L26 κ 30 s k0 l n (-1) (k : Int) P = κ w Q ∧ mFr P Q ∧ mA time sn bt seen (p + (srch k0 (mst seen s) ts).1) tl us un Q ∧ mB N sn mem l0 l1 l2 Q ∧ FndR N w (srch k0 (mst seen s) ts).2 Q := by
  intro ts
  induction ts with
  | nil =>
    intro n k p P hd hkl hn hp hp2 hA hB
    obtain ⟨n, rfl⟩ : ∃ j, n = j + 1 := ⟨n - 1, by omega⟩
    obtain ⟨t1, t2⟩ := m_tables hA hB h4 hl
    have hk : (lvT l0 l1 l2 l).length ≤ k := List.drop_eq_nil_iff.mp hd
    have e1 : zle (nT l0 l1 l2 l : Int) (k : Int) := (zle_iff (rgN (by omega)) (rgN (by rw [nT_lvT] at t2; omega))).mpr (by rw [nT_lvT]; omega)
    refine ⟨-1, P, ?_, mFr.rf P, ?_, hB, Or.inl ⟨rfl, rfl⟩⟩
    · unfold f_Md_find_L26
      rw [zb2_of t1, if_pos e1]
    · show mA time sn bt seen (p + 0) tl us un P
      rw [Int.add_zero]; exact hA
  | cons t ts ih =>
    intro n k p P hd hkl hn hp hp2 hA hB
    obtain ⟨n, rfl⟩ : ∃ j, n = j + 1 := ⟨n - 1, by omega⟩
    obtain ⟨t1, t2⟩ := m_tables hA hB h4 hl
    rw [nT_lvT] at t2
    have hk : k < (lvT l0 l1 l2 l).length := by
      rcases Nat.lt_or_ge k (lvT l0 l1 l2 l).length with q | q
      · exact q
      · rw [List.drop_eq_nil_iff.mpr q] at hd; cases hd
    have hd2 : (lvT l0 l1 l2 l).drop (k + 1) = ts := by
      rw [List.drop_eq_getElem_cons hk] at hd
      exact (List.cons.inj hd).2
    have ht : tbl mem l0 l1 l2 l (k : Int) = some t := by
      rw [tbl_lvT hl, List.getElem?_eq_getElem hk]
      rw [List.drop_eq_getElem_cons hk] at hd
      rw [(List.cons.inj hd).1]
    have e1 : ¬ zle (nT l0 l1 l2 l : Int) (k : Int) := fun q => by
      have := (zle_iff (rgN (by rw [nT_lvT]; omega)) (rgN (by omega))).mp q
      rw [nT_lvT] at this
      omega
    have e2 : ¬ zle 0 (-1) := by decide
    have e5 := zaddN (i := k) (by omega)
    simp only [List.length_cons] at hn hp2
    have hl' : l = -1 ∨ l = 0 ∨ l = 1 ∨ l = 2 := Or.inr hl
    have hm := m_may hA hB hS hl' (k := (k : Int)) (by omega) hk0 ht
    have z0 : zeq 0 0 := rfl
    have z1 : ¬ zeq 1 0 := by decide
    have rk0 : rg k0 := by
      unfold isK at hk0
      simp only [Bool.and_eq_true, decide_eq_true_eq] at hk0
      unfold rg; omega
    conv => 
      arg 1; ext w; arg 1; ext Q
      unfold srch f_Md_find_L26
    by_cases c : may t k0 = true
    · rw [if_pos c] at hm
      obtain ⟨h, hG, a1, a2, a3, a4, a5, a6, a7⟩ := mA_iff.mp hA
      have e6 : zadd p 1 = p + 1 := zadd_eq (by omega) (by omega)
      have hA1 := hA.prb (x := p + 1) (by unfold rg; omega)
      have hB1 := hB.prb (x := p + 1)
      have hF1 : mFr P (wI P 30 9 (p + 1)) := mFr.wI P (by decide) (by decide)
      obtain ⟨w, l1', l2'⟩ := m_latest hA1 hB1 hS hl' (k := (k : Int)) (by omega) rk0 hV ht
      simp only [if_pos c, zb2_of t1, if_neg e1, if_neg e2, zb2_of hm, if_neg z1, ↓gI_b, ↓gR_b, ↓pI_b, ↓pZ_b, ↓pR_b, ↓ldI_b, ↓ldR_b, ↓stI_b, ↓stZ_b, ↓stR_b, zk_eq, sh_wI, sh_wR, rF_wI, iF_wR, ms30 h, true_and, and_true, and_self, ↓reduceIte, Int.toNat_natCast, Int.natCast_nonneg, Nat.reduceLT, Nat.reduceLeDiff, Nat.reduceEqDiff, ne_eq, not_false_eq_true, Nat.reduceAdd, reduceCtorEq, Int.reduceLT, Int.reduceLE, Int.reduceToNat, a3, e6, zb2_of l1', e5]
      rcases l2' with ⟨rfl, hb⟩ | ⟨b, hb1, hb2, rfl, hb⟩
      · obtain ⟨w, Q, r1, r2, r3, r4, r5⟩ := ih n (k + 1) (p + 1) (wI P 30 9 (p + 1)) hd2 (by omega) (by omega) (by omega) (by omega) hA1 hB1
        refine ⟨w, Q, r1, hF1.tr r2, ?_, r4, ?_⟩
        · rw [hb]
          simp only
          rw [← Int.add_assoc]
          exact r3
        · rw [hb]; exact r5
      · obtain ⟨n, rfl⟩ : ∃ j, n = j + 1 := ⟨n - 1, by omega⟩
        have hN2 := hB.2.1
        refine ⟨(b : Int), wI P 30 9 (p + 1), ml_fpass hA1 hB1 h4 hl (by omega) κ n, hF1, ?_, hB1, ?_⟩
        · rw [hb]; exact hA1
        · rw [hb]; exact Or.inr ⟨b, hb1, hb2, rfl, rfl⟩
    · rw [if_neg c] at hm
      simp only [if_neg c, zb2_of t1, if_neg e1, if_neg e2, zb2_of hm, if_pos z0, e5]
      exact ih n (k + 1) p P hd2 (by omega) (by omega) hp (by omega) hA hB
end MD24
section MD25
variable {M : zHp} {N : Nat} {time sn : Int} {bt : List Bt} {seen : List Int} {pr tl : Int} {us vs : List Int} {u : Int} {un : List Un} {mem : List En} {l0 : List (List En)} {l1 l2 : List En}
theorem nxt_le {k m : Int} {q : Int × Option En} {ts : List (List En)} (h : 0 ≤ q.1) : 0 ≤ (nxt k m q ts).1 ∧ (nxt k m q ts).1 ≤ q.1 + ts.length := by
  have := srch_le k m ts
  unfold nxt
  split
  · simp only; omega
  · simp only; omega
/-- one level more -/
theorem ml_level (hS : sS mem l0 l1 l2) (h4 : l0.length ≤ 4) {l s k0 : Int} (hl : l = 0 ∨ l = 1 ∨ l = 2) (hV : isV seen s = true) (hk0 : isK k0 = true) (κ : Int → zHp → Option (Int × zHp)) {q : Int × Option En} {w : Int} (hp : 0 ≤ q.1) (hp2 : q.1 ≤ 5000) (hA : mA time sn bt seen q.1 tl us un M) (hB : mB N sn mem l0 l1 l2 M) (hw : FndR N w q.2 M) :
      ∃ w2 Q, f_Md_find_L26 κ 30 s k0 l zfu w 0 M = κ w2 Q ∧ mFr M Q ∧ mA time sn bt seen (nxt k0 (mst seen s) q (lvT l0 l1 l2 l)).1 tl us un Q ∧ mB N sn mem l0 l1 l2 Q ∧ FndR N w2 (nxt k0 (mst seen s) q (lvT l0 l1 l2 l)).2 Q := by
  obtain ⟨t1, t2⟩ := m_tables hA hB h4 hl
  rw [nT_lvT] at t2
  have hN2 := hB.2.1
  rcases hw with ⟨rfl, ho⟩ | ⟨b, hb1, hb2, rfl, ho⟩
  · obtain ⟨w, Q, r1, r2, r3, r4, r5⟩ := ml_find26 (l := l) hS h4 hl hV hk0 κ (lvT l0 l1 l2 l) zfu 0 q.1 M rfl (by omega) (by unfold zfu; omega) hp (by omega) hA hB
    refine ⟨w, Q, r1, r2, ?_, r4, ?_⟩
    · unfold nxt; rw [ho]; exact r3
    · unfold nxt; rw [ho]; exact r5
  · refine ⟨(b : Int), M, ml_fpass (k := 0) hA hB h4 hl (by omega) κ 599, mFr.rf M, ?_, hB, ?_⟩
    · unfold nxt; rw [ho]; exact hA
    · unfold nxt; rw [ho]; exact Or.inr ⟨b, hb1, hb2, rfl, rfl⟩
theorem fnd_nxt (m k : Int) : fnd m k mem l0 l1 l2 = nxt k m (nxt k m (nxt k m (0, best mem k m) l0) (chk l1)) (chk l2) := by
  unfold fnd
  cases e : best mem k m with
  | some x => rfl
  | none =>
    show srch k m (tbs l0 l1 l2) = _
    unfold tbs
    have e0 : nxt k m (0, none) l0 = srch k m l0 := by
      show (0 + (srch k m l0).1, (srch k m l0).2) = _
      rw [Int.zero_add]
    rw [e0, ← srch_app, ← srch_app, List.append_assoc]
theorem m_find (hA : mA time sn bt seen pr tl us un M) (hB : mB N sn mem l0 l1 l2 M) (hS : sS mem l0 l1 l2) (h4 : l0.length ≤ 4) {s k0 : Int} (hV : isV seen s = true) (hk0 : isK k0 = true) :
    ∃ w Q, f_Md_find 30 s k0 M = some (w, Q) ∧ mFr M Q ∧ mA time sn bt seen (fnd (mst seen s) k0 mem l0 l1 l2).1 tl us un Q ∧ mB N sn mem l0 l1 l2 Q ∧ FndR N w (fnd (mst seen s) k0 mem l0 l1 l2).2 Q := by
  have h := (mA_iff.mp hA).1
  have rk0 : rg k0 := by
    unfold isK at hk0
    simp only [Bool.and_eq_true, decide_eq_true_eq] at hk0
    unfold rg; omega
  have hA1 := hA.prb rg0
  have hB1 := hB.prb (x := 0)
  have hF1 : mFr M (wI M 30 9 0) := mFr.wI M (by decide) (by decide)
  obtain ⟨w0, p1, p2⟩ := m_latest hA1 hB1 hS (l := -1) (k := 0) (s := s) (k0 := k0) (t := mem) (Or.inl rfl) (by omega) rk0 hV rfl
  have hw0 : FndR N w0 (0, best mem k0 (mst seen s)).2 (wI M 30 9 0) := p2
  have ll : ∀ l, (l = 0 ∨ l = 1 ∨ l = 2) → (lvT l0 l1 l2 l).length ≤ 520 := fun l hl => by
    have := (m_tables hA hB h4 hl).2
    rw [nT_lvT] at this
    exact this
  have n1 := nxt_le (k := k0) (m := mst seen s) (q := (0, best mem k0 (mst seen s))) (ts := lvT l0 l1 l2 0) (by simp)
  have n2 := nxt_le (k := k0) (m := mst seen s) (q := nxt k0 (mst seen s) (0, best mem k0 (mst seen s)) (lvT l0 l1 l2 0)) (ts := lvT l0 l1 l2 1) n1.1
  have b0 := ll 0 (by simp)
  have b1 := ll 1 (by simp)
  have b2 := ll 2 (by simp)
  have z0 : ¬ zle 3 0 := by decide
  have z1 : ¬ zle 3 1 := by decide
  have z2 : ¬ zle 3 2 := by decide
  have z3 : zle 3 3 := by decide
  have a01 : zadd 0 1 = 1 := by decide
  have a12 : zadd 1 1 = 2 := by decide
  have a23 : zadd 2 1 = 3 := by decide
  have u : ∀ n v (l : Int) (P : zHp), f_Md_find_L17 (fun v25 M26 => some (v25, M26)) 30 s k0 (n + 1) v l P = if zle 3 l then some (v, P) else f_Md_find_L26 (fun v23 M24 => f_Md_find_L17 (fun v25 M26 => some (v25, M26)) 30 s k0 n v23 (zadd l 1) M24) 30 s k0 l zfu v 0 P := fun n v l P => rfl
  obtain ⟨w1, Q1, q1, q2, q3, q4, q5⟩ := ml_level hS h4 (l := 0) (by simp) hV hk0 (fun v23 M24 => f_Md_find_L17 (fun v25 M26 => some (v25, M26)) 30 s k0 599 v23 (zadd 0 1) M24) (q := (0, best mem k0 (mst seen s))) (by simp) (by simp) hA1 hB1 hw0
  obtain ⟨w2, Q2, r1, r2, r3, r4, r5⟩ := ml_level hS h4 (l := 1) (by simp) hV hk0 (fun v23 M24 => f_Md_find_L17 (fun v25 M26 => some (v25, M26)) 30 s k0 598 v23 (zadd 1 1) M24) (by omega) (by simp only at n1; omega) q3 q4 q5
  obtain ⟨w3, Q3, s1, s2, s3, s4, s5⟩ := ml_level hS h4 (l := 2) (by simp) hV hk0 (fun v23 M24 => f_Md_find_L17 (fun v25 M26 => some (v25, M26)) 30 s k0 597 v23 (zadd 2 1) M24) n2.1 (by simp only at n1; omega) r3 r4 r5
  refine ⟨w3, Q3, ?_, hF1.tr (q2.tr (r2.tr s2)), ?_, s4, ?_⟩
  · unfold f_Md_find
    have t0 : f_Md_find_L17 (fun v25 M26 => some (v25, M26)) 30 s k0 zfu w0 0 (wI M 30 9 0) = some (w3, Q3) := by
      show f_Md_find_L17 (fun v25 M26 => some (v25, M26)) 30 s k0 (599 + 1) w0 0 (wI M 30 9 0) = some (w3, Q3)
      rw [u 599, if_neg z0, q1, a01]
      show f_Md_find_L17 (fun v25 M26 => some (v25, M26)) 30 s k0 (598 + 1) w1 1 Q1 = some (w3, Q3)
      rw [u 598, if_neg z1, r1, a12]
      show f_Md_find_L17 (fun v25 M26 => some (v25, M26)) 30 s k0 (597 + 1) w2 2 Q2 = some (w3, Q3)
      rw [u 597, if_neg z2, s1, a23]
      show f_Md_find_L17 (fun v25 M26 => some (v25, M26)) 30 s k0 (596 + 1) w3 3 Q3 = some (w3, Q3)
      rw [u 596, if_pos z3]
    rw [zk_eq, ms30 h, if_pos rfl, pI_b _ _ _ _ _ _ (by decide), ms30 h, if_pos rfl, zb2_of p1]
    exact t0
  · rw [fnd_nxt]; exact s3
  · rw [fnd_nxt]; exact s5
def hsv (time : Int) (o : Option En) : Int := match o with
  | some e => if goneB time e = true then 0 else 1
  | none => 0
def gtv (time : Int) (o : Option En) : Int := match o with
  | some e => if goneB time e = true then 0 else eV e
  | none => 0
theorem m_has (hA : mA time sn bt seen pr tl us un M) (hB : mB N sn mem l0 l1 l2 M) (hS : sS mem l0 l1 l2) (h4 : l0.length ≤ 4) {s k0 : Int} (hs : rg s) (hk : rg k0) :
    ∃ Q, f_Md_has 30 s k0 M = some (if isV seen s = true ∧ isK k0 = true then hsv time (fnd (mst seen s) k0 mem l0 l1 l2).2 else 0, Q) ∧ mFr M Q ∧ mA time sn bt seen (if isV seen s = true ∧ isK k0 = true then (fnd (mst seen s) k0 mem l0 l1 l2).1 else pr) tl us un Q ∧ mB N sn mem l0 l1 l2 Q := by
  have h := (mA_iff.mp hA).1
  have hv := m_isView hA hs
  have hkk := m_isKey M hk
  have z0 : zeq 0 0 := rfl
  have z1 : ¬ zeq 1 0 := by decide
  unfold f_Md_has
  by_cases c1 : isV seen s = true
  · rw [if_pos c1] at hv
    by_cases c2 : isK k0 = true
    · rw [if_pos c2] at hkk
      obtain ⟨w, Q, f1, f2, f3, f4, f5⟩ := m_find hA hB hS h4 c1 c2
      have cc : isV seen s = true ∧ isK k0 = true := ⟨c1, c2⟩
      rw [if_pos cc, if_pos cc]
      refine ⟨Q, ?_, f2, f3, f4⟩
      rw [zk_eq, ms30 h, if_pos rfl, zb2_of hv, if_neg z1, zb2_of hkk, if_neg z1, zb2_of f1]
      rcases f5 with ⟨rfl, ho⟩ | ⟨b, hb1, hb2, rfl, ho⟩
      · rw [if_pos (by decide), ho]; rfl
      · obtain ⟨g1, g2, g3, -⟩ := mA_iff.mp f3
        have hW := f4.2.2.2.2.1 b hb1
        have hN2 := f4.2.1
        have hg := m_gone g1 g2 (e := b) (by omega) hW.1 hW.2.1
        rw [if_neg (fun q => by have := (zlt_iff (rgN (by omega)) rg0).mp q; omega), zb2_of hg, ho, g3]
        unfold hsv
        by_cases c3 : goneB time (me Q b) = true
        · simp only [if_pos c3, if_neg z1]
        · simp only [if_neg c3, if_pos z0, if_true]
    · rw [if_neg c2] at hkk
      have cc : ¬ (isV seen s = true ∧ isK k0 = true) := fun q => c2 q.2
      rw [if_neg cc, if_neg cc]
      refine ⟨M, ?_, mFr.rf M, hA, hB⟩
      rw [zk_eq, ms30 h, if_pos rfl, zb2_of hv, if_neg z1, zb2_of hkk, if_pos z0]
  · rw [if_neg c1] at hv
    have cc : ¬ (isV seen s = true ∧ isK k0 = true) := fun q => c1 q.1
    rw [if_neg cc, if_neg cc]
    refine ⟨M, ?_, mFr.rf M, hA, hB⟩
    rw [zk_eq, ms30 h, if_pos rfl, zb2_of hv, if_pos z0]
theorem m_get (hA : mA time sn bt seen pr tl us un M) (hB : mB N sn mem l0 l1 l2 M) (hS : sS mem l0 l1 l2) (h4 : l0.length ≤ 4) {s k0 : Int} (hs : rg s) (hk : rg k0) :
    ∃ Q, f_Md_get 30 s k0 M = some (if isV seen s = true ∧ isK k0 = true then gtv time (fnd (mst seen s) k0 mem l0 l1 l2).2 else 0, Q) ∧ mFr M Q ∧ mA time sn bt seen (if isV seen s = true ∧ isK k0 = true then (fnd (mst seen s) k0 mem l0 l1 l2).1 else pr) tl us un Q ∧ mB N sn mem l0 l1 l2 Q := by
  have h := (mA_iff.mp hA).1
  have hv := m_isView hA hs
  have hkk := m_isKey M hk
  have z0 : zeq 0 0 := rfl
  have z1 : ¬ zeq 1 0 := by decide
  unfold f_Md_get
  by_cases c1 : isV seen s = true
  · rw [if_pos c1] at hv
    by_cases c2 : isK k0 = true
    · rw [if_pos c2] at hkk
      obtain ⟨w, Q, f1, f2, f3, f4, f5⟩ := m_find hA hB hS h4 c1 c2
      have cc : isV seen s = true ∧ isK k0 = true := ⟨c1, c2⟩
      rw [if_pos cc, if_pos cc]
      refine ⟨Q, ?_, f2, f3, f4⟩
      rw [zk_eq, ms30 h, if_pos rfl, zb2_of hv, if_neg z1, zb2_of hkk, if_neg z1, zb2_of f1]
      rcases f5 with ⟨rfl, ho⟩ | ⟨b, hb1, hb2, rfl, ho⟩
      · rw [if_pos (by decide), ho]; rfl
      · obtain ⟨g1, g2, g3, -⟩ := mA_iff.mp f3
        have hW := f4.2.2.2.2.1 b hb1
        have hN2 := f4.2.1
        have hg := m_gone g1 g2 (e := b) (by omega) hW.1 hW.2.1
        rw [if_neg (fun q => by have := (zlt_iff (rgN (by omega)) rg0).mp q; omega), zb2_of hg, ho, g3]
        unfold gtv
        have b1 : (b : Int) < 4096 := by omega
        have b2 : b < 520 := by omega
        by_cases c3 : goneB time (me Q b) = true
        · simp only [if_pos c3, if_neg z1]
        · have hd : iF Q 34 b = 0 := by
            rcases hW.1 with q | q
            · exact q
            · exfalso; apply c3
              unfold goneB me
              rw [if_neg (by omega)]
              rfl
          have hev : eV (me Q b) = iF Q 33 b := by unfold me eV; rw [if_pos hd]
          simp only [if_neg c3, if_pos z0, ↓gI_b, ↓gR_b, ↓pI_b, ↓pZ_b, ↓pR_b, ↓ldI_b, ↓ldR_b, ↓stI_b, ↓stZ_b, ↓stR_b, zk_eq, sh_wI, sh_wR, rF_wI, iF_wR, ms30 g1, ms33 g1, mr2 g1, true_and, and_true, and_self, ↓reduceIte, Int.toNat_natCast, Int.natCast_nonneg, Nat.reduceLT, Nat.reduceLeDiff, Nat.reduceEqDiff, ne_eq, not_false_eq_true, Nat.reduceAdd, reduceCtorEq, Int.reduceLT, Int.reduceLE, Int.reduceToNat, b1, b2, hev]
    · rw [if_neg c2] at hkk
      have cc : ¬ (isV seen s = true ∧ isK k0 = true) := fun q => c2 q.2
      rw [if_neg cc, if_neg cc]
      refine ⟨M, ?_, mFr.rf M, hA, hB⟩
      rw [zk_eq, ms30 h, if_pos rfl, zb2_of hv, if_neg z1, zb2_of hkk, if_pos z0]
  · rw [if_neg c1] at hv
    have cc : ¬ (isV seen s = true ∧ isK k0 = true) := fun q => c1 q.1
    rw [if_neg cc, if_neg cc]
    refine ⟨M, ?_, mFr.rf M, hA, hB⟩
    rw [zk_eq, ms30 h, if_pos rfl, zb2_of hv, if_pos z0]
end MD25
