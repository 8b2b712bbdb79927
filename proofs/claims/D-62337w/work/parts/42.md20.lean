-- the model's readers: latest, filter, bounds
/-- least and greatest key as the model finds them -/
def bnd (g : Int) (t : List En) : Int := t.foldl (fun b e => if b < 0 ∨ (if g = 0 then eK e < b else b < eK e) then eK e else b) (-1)
theorem bnd_in {g : Int} : ∀ (t : List En) (b : Int), 0 ≤ b → (∀ e ∈ t, 0 ≤ eK e) →
    let r := t.foldl (fun b e => if b < 0 ∨ (if g = 0 then eK e < b else b < eK e) then eK e else b) b
    (r = b ∨ ∃ e ∈ t, r = eK e) ∧ (g = 0 → r ≤ b ∧ ∀ e ∈ t, r ≤ eK e) ∧ (g ≠ 0 → b ≤ r ∧ ∀ e ∈ t, eK e ≤ r)
  | [], b, _, _ => by simp
  | a :: t, b, hb, h => by
    have ha := h a List.mem_cons_self
    have ht := fun e he => h e (List.mem_cons_of_mem a he)
    simp only [List.foldl_cons]
    have key : ∀ c : Int, 0 ≤ c → (c = b ∨ c = eK a) → (g = 0 → c ≤ b ∧ c ≤ eK a) → (g ≠ 0 → b ≤ c ∧ eK a ≤ c) →
        let r := t.foldl (fun b e => if b < 0 ∨ (if g = 0 then eK e < b else b < eK e) then eK e else b) c
        (r = b ∨ ∃ e ∈ a :: t, r = eK e) ∧ (g = 0 → r ≤ b ∧ ∀ e ∈ a :: t, r ≤ eK e) ∧ (g ≠ 0 → b ≤ r ∧ ∀ e ∈ a :: t, eK e ≤ r) := by
      intro c hc h1 h2 h3
      have ih := bnd_in (g := g) t c hc ht
      simp only at ih ⊢
      generalize t.foldl (fun b e => if b < 0 ∨ (if g = 0 then eK e < b else b < eK e) then eK e else b) c = r at ih
      refine ⟨?_, fun hg => ?_, fun hg => ?_⟩
      · rcases ih.1 with q | ⟨e, he, q⟩
        · rcases h1 with h1 | h1
          · exact Or.inl (q.trans h1)
          · exact Or.inr ⟨a, List.mem_cons_self, q.trans h1⟩
        · exact Or.inr ⟨e, List.mem_cons_of_mem a he, q⟩
      · have := ih.2.1 hg
        have h2 := h2 hg
        refine ⟨by omega, fun e he => ?_⟩
        rcases List.mem_cons.mp he with rfl | he
        · omega
        · exact this.2 e he
      · have := ih.2.2 hg
        have h3 := h3 hg
        refine ⟨by omega, fun e he => ?_⟩
        rcases List.mem_cons.mp he with rfl | he
        · omega
        · exact this.2 e he
    by_cases hg : g = 0
    · by_cases c : eK a < b
      · rw [if_pos (Or.inr (by rw [if_pos hg]; exact c))]
        exact key _ ha (Or.inr rfl) (fun _ => by omega) (fun q => absurd hg q)
      · rw [if_neg (by rw [if_pos hg]; omega)]
        exact key _ hb (Or.inl rfl) (fun _ => by omega) (fun q => absurd hg q)
    · by_cases c : b < eK a
      · rw [if_pos (Or.inr (by rw [if_neg hg]; exact c))]
        exact key _ ha (Or.inr rfl) (fun q => absurd q hg) (fun _ => by omega)
      · rw [if_neg (by rw [if_neg hg]; omega)]
        exact key _ hb (Or.inl rfl) (fun q => absurd q hg) (fun _ => by omega)
theorem bnd_mem {g : Int} {t : List En} (hne : t ≠ []) (h : ∀ e ∈ t, 0 ≤ eK e) : (∃ e ∈ t, bnd g t = eK e) ∧ (g = 0 → ∀ e ∈ t, bnd g t ≤ eK e) ∧ (g ≠ 0 → ∀ e ∈ t, eK e ≤ bnd g t) := by
  cases t with
  | nil => exact absurd rfl hne
  | cons a t =>
    unfold bnd
    rw [List.foldl_cons, if_pos (Or.inl (by decide))]
    have ih := bnd_in (g := g) t (eK a) (h a List.mem_cons_self) (fun e he => h e (List.mem_cons_of_mem a he))
    simp only at ih
    generalize t.foldl (fun b e => if b < 0 ∨ (if g = 0 then eK e < b else b < eK e) then eK e else b) (eK a) = r at ih
    refine ⟨?_, fun hg e he => ?_, fun hg e he => ?_⟩
    · rcases ih.1 with q | ⟨e, he, q⟩
      · exact ⟨a, List.mem_cons_self, q⟩
      · exact ⟨e, List.mem_cons_of_mem a he, q⟩
    · have := ih.2.1 hg
      rcases List.mem_cons.mp he with rfl | he
      · exact this.1
      · exact this.2 e he
    · have := ih.2.2 hg
      rcases List.mem_cons.mp he with rfl | he
      · exact this.1
      · exact this.2 e he
theorem bnd_hd {t s : List En} (h : t.Perm s) (hs : srd t) (hk : ∀ e ∈ s, 0 ≤ eK e) : bnd 0 s = hdK t := by
  by_cases c : s = []
  · subst c
    rw [h.eq_nil]; rfl
  · obtain ⟨⟨e, he, h1⟩, h2, -⟩ := bnd_mem (g := 0) c hk
    have ct : t ≠ [] := fun q => c (by subst q; exact h.nil_eq.symm)
    obtain ⟨y, hy, hy2⟩ := hdK_mem ct
    have a1 := hdK_le hs (h.mem_iff.mpr he)
    have a2 := h2 rfl y (h.mem_iff.mp hy)
    omega
theorem bnd_la {t s : List En} (h : t.Perm s) (hs : srd t) (hk : ∀ e ∈ s, 0 ≤ eK e) : bnd 1 s = laK t := by
  by_cases c : s = []
  · subst c
    rw [h.eq_nil]; rfl
  · obtain ⟨⟨e, he, h1⟩, -, h2⟩ := bnd_mem (g := 1) c hk
    have ct : t ≠ [] := fun q => c (by subst q; exact h.nil_eq.symm)
    obtain ⟨y, hy, hy2⟩ := laK_mem ct
    have a1 := laK_ge hs (h.mem_iff.mpr he)
    have a2 := h2 (by decide) y (h.mem_iff.mp hy)
    omega
def LtC (M : zHp) (l k k0 m : Int) (f : Nat) : Prop := lieB M l k f = true ∧ iF M 31 f = k0 ∧ iF M 32 f ≤ m
section MD23
variable {M : zHp} {N : Nat} {time sn : Int} {bt : List Bt} {seen : List Int} {pr tl : Int} {us vs : List Int} {u : Int} {un : List Un} {mem : List En} {l0 : List (List En)} {l1 l2 : List En}
set_option maxRecDepth 10000 in
theorem ml_latest (h : mSh M) (hG : RG M) (hN : iF M 30 1 = (N : Int)) (hN2 : N ≤ 520) (hA : mA time sn bt seen pr tl us un M) (hBB : mB N sn mem l0 l1 l2 M) {l k s k0 : Int} (hl : l = -1 ∨ l = 0 ∨ l = 1 ∨ l = 2) (hk : rg k) (hk0 : rg k0) (hV : isV seen s = true) (κ : Int → zHp → Option (Int × zHp)) : ∀ (d n i : Nat) (v : Int), i + d = N → d < n → ((v = -1 ∧ ∀ f, f < i → ¬ LtC M l k k0 (mst seen s) f) ∨ ∃ b, b < i ∧ v = (b : Int) ∧ LtC M l k k0 (mst seen s) b ∧ ∀ f, f < i → LtC M l k k0 (mst seen s) f → iF M 32 f ≤ iF M 32 b) → ∃ w, f_Md_latest_L6 κ 30 l k s k0 n v (i : Int) M = κ w M ∧ ((w = -1 ∧ ∀ f, f < N → ¬ LtC M l k k0 (mst seen s) f) ∨ ∃ b, b < N ∧ w = (b : Int) ∧ LtC M l k k0 (mst seen s) b ∧ ∀ f, f < N → LtC M l k k0 (mst seen s) f → iF M 32 f ≤ iF M 32 b) := by
  intro d
  induction d with
  | zero =>
    intro n i v hi hn hv
    obtain ⟨n, rfl⟩ : ∃ k, n = k + 1 := ⟨n - 1, by omega⟩
    unfold f_Md_latest_L6
    have e1 : zle (N : Int) (i : Int) := (zle_iff (rgN (by omega)) (rgN (by omega))).mpr (by omega)
    have hiN : i = N := by omega
    subst hiN
    refine ⟨v, ?_, hv⟩
    simp only [↓gI_b, ↓gR_b, ↓pI_b, ↓pZ_b, ↓pR_b, ↓ldI_b, ↓ldR_b, ↓stI_b, ↓stZ_b, ↓stR_b, zk_eq, sh_wI, sh_wR, rF_wI, iF_wR, ms30 h, ms31 h, ms32 h, ms33 h, ms34 h, ms35 h, ms36 h, ms37 h, ms38 h, ms39 h, ms40 h, ms41 h, ms42 h, ms43 h, ms44 h, ms45 h, ms46 h, ms47 h, ms48 h, ms49 h, ms50 h, mr0 h, mr1 h, mr2 h, mr3 h, mr4 h, mr5 h, mr6 h, mr7 h, mr8 h, mr9 h, mr10 h, mr11 h, mr12 h, mr13 h, mr14 h, mr15 h, mr16 h, mr17 h, mr18 h, mr19 h, true_and, and_true, and_self, ↓reduceIte, Int.toNat_natCast, Int.natCast_nonneg, Nat.reduceLT, Nat.reduceLeDiff, Nat.reduceEqDiff, ne_eq, not_false_eq_true, Nat.reduceAdd, reduceCtorEq, Int.reduceLT, Int.reduceLE, Int.reduceToNat, hN, e1]
  | succ d ih =>
    intro n i v hi hn hv
    obtain ⟨n, rfl⟩ : ∃ k, n = k + 1 := ⟨n - 1, by omega⟩
    unfold f_Md_latest_L6
    have e1 : ¬ zle (N : Int) (i : Int) := fun q => by have := (zle_iff (rgN (by omega)) (rgN (by omega))).mp q; omega
    have e2 : (i : Int) < 4096 := by omega
    have e3 : i < 520 := by omega
    have e5 := zaddN (i := i) (by omega)
    have hb := m_lies h hG hBB (e := i) (by omega) hl hk
    have hs := m_isSeen hA hV (e := i) e3
    have e7 := zeq_iff (hG 31 i) hk0
    have z0 : zeq 0 0 := rfl
    have z1 : ¬ zeq 1 0 := by decide
    by_cases c1 : ¬ lieB M l k i = true
    · rw [if_neg c1] at hb
      simp only [↓gI_b, ↓gR_b, ↓pI_b, ↓pZ_b, ↓pR_b, ↓ldI_b, ↓ldR_b, ↓stI_b, ↓stZ_b, ↓stR_b, zk_eq, sh_wI, sh_wR, rF_wI, iF_wR, ms30 h, ms31 h, ms32 h, ms33 h, ms34 h, ms35 h, ms36 h, ms37 h, ms38 h, ms39 h, ms40 h, ms41 h, ms42 h, ms43 h, ms44 h, ms45 h, ms46 h, ms47 h, ms48 h, ms49 h, ms50 h, mr0 h, mr1 h, mr2 h, mr3 h, mr4 h, mr5 h, mr6 h, mr7 h, mr8 h, mr9 h, mr10 h, mr11 h, mr12 h, mr13 h, mr14 h, mr15 h, mr16 h, mr17 h, mr18 h, mr19 h, true_and, and_true, and_self, ↓reduceIte, Int.toNat_natCast, Int.natCast_nonneg, Nat.reduceLT, Nat.reduceLeDiff, Nat.reduceEqDiff, ne_eq, not_false_eq_true, Nat.reduceAdd, reduceCtorEq, Int.reduceLT, Int.reduceLE, Int.reduceToNat, hN, e1, e2, e3, e5, ↓zb2_of hb, z0]
      have hn1 : ¬ LtC M l k k0 (mst seen s) i := fun q => c1 q.1
      refine ih n (i + 1) v (by omega) (by omega) ?_
      rcases hv with ⟨hv, hf⟩ | ⟨b, hbl, hv, hB, hm⟩
      · exact Or.inl ⟨hv, allS hf hn1⟩
      · exact Or.inr ⟨b, by omega, hv, hB, allS (P := fun f => LtC M l k k0 (mst seen s) f → iF M 32 f ≤ iF M 32 b) hm (fun q => absurd q hn1)⟩
    have c1 := Decidable.not_not.mp c1
    rw [if_pos c1] at hb
    by_cases c2 : ¬ iF M 31 i = k0
    · simp only [↓gI_b, ↓gR_b, ↓pI_b, ↓pZ_b, ↓pR_b, ↓ldI_b, ↓ldR_b, ↓stI_b, ↓stZ_b, ↓stR_b, zk_eq, sh_wI, sh_wR, rF_wI, iF_wR, ms30 h, ms31 h, ms32 h, ms33 h, ms34 h, ms35 h, ms36 h, ms37 h, ms38 h, ms39 h, ms40 h, ms41 h, ms42 h, ms43 h, ms44 h, ms45 h, ms46 h, ms47 h, ms48 h, ms49 h, ms50 h, mr0 h, mr1 h, mr2 h, mr3 h, mr4 h, mr5 h, mr6 h, mr7 h, mr8 h, mr9 h, mr10 h, mr11 h, mr12 h, mr13 h, mr14 h, mr15 h, mr16 h, mr17 h, mr18 h, mr19 h, true_and, and_true, and_self, ↓reduceIte, Int.toNat_natCast, Int.natCast_nonneg, Nat.reduceLT, Nat.reduceLeDiff, Nat.reduceEqDiff, ne_eq, not_false_eq_true, Nat.reduceAdd, reduceCtorEq, Int.reduceLT, Int.reduceLE, Int.reduceToNat, hN, e1, e2, e3, e5, ↓zb2_of hb, z1, e7, c2]
      have hn1 : ¬ LtC M l k k0 (mst seen s) i := fun q => c2 q.2.1
      refine ih n (i + 1) v (by omega) (by omega) ?_
      rcases hv with ⟨hv, hf⟩ | ⟨b, hbl, hv, hB, hm⟩
      · exact Or.inl ⟨hv, allS hf hn1⟩
      · exact Or.inr ⟨b, by omega, hv, hB, allS (P := fun f => LtC M l k k0 (mst seen s) f → iF M 32 f ≤ iF M 32 b) hm (fun q => absurd q hn1)⟩
    have c2 := Decidable.not_not.mp c2
    by_cases c3 : ¬ iF M 32 i ≤ mst seen s
    · rw [if_neg c3] at hs
      simp only [↓gI_b, ↓gR_b, ↓pI_b, ↓pZ_b, ↓pR_b, ↓ldI_b, ↓ldR_b, ↓stI_b, ↓stZ_b, ↓stR_b, zk_eq, sh_wI, sh_wR, rF_wI, iF_wR, ms30 h, ms31 h, ms32 h, ms33 h, ms34 h, ms35 h, ms36 h, ms37 h, ms38 h, ms39 h, ms40 h, ms41 h, ms42 h, ms43 h, ms44 h, ms45 h, ms46 h, ms47 h, ms48 h, ms49 h, ms50 h, mr0 h, mr1 h, mr2 h, mr3 h, mr4 h, mr5 h, mr6 h, mr7 h, mr8 h, mr9 h, mr10 h, mr11 h, mr12 h, mr13 h, mr14 h, mr15 h, mr16 h, mr17 h, mr18 h, mr19 h, true_and, and_true, and_self, ↓reduceIte, Int.toNat_natCast, Int.natCast_nonneg, Nat.reduceLT, Nat.reduceLeDiff, Nat.reduceEqDiff, ne_eq, not_false_eq_true, Nat.reduceAdd, reduceCtorEq, Int.reduceLT, Int.reduceLE, Int.reduceToNat, hN, e1, e2, e3, e5, ↓zb2_of hb, z1, e7, eq_true c2, ↓zb2_of hs, z0]
      have hn1 : ¬ LtC M l k k0 (mst seen s) i := fun q => c3 q.2.2
      refine ih n (i + 1) v (by omega) (by omega) ?_
      rcases hv with ⟨hv, hf⟩ | ⟨b, hbl, hv, hB, hm⟩
      · exact Or.inl ⟨hv, allS hf hn1⟩
      · exact Or.inr ⟨b, by omega, hv, hB, allS (P := fun f => LtC M l k k0 (mst seen s) f → iF M 32 f ≤ iF M 32 b) hm (fun q => absurd q hn1)⟩
    have c3 := Decidable.not_not.mp c3
    rw [if_pos c3] at hs
    have c : LtC M l k k0 (mst seen s) i := ⟨c1, c2, c3⟩
    rcases hv with ⟨rfl, hf⟩ | ⟨b, hbl, rfl, hB, hm⟩
    · have e9 : zlt (-1) 0 := by decide
      simp only [↓gI_b, ↓gR_b, ↓pI_b, ↓pZ_b, ↓pR_b, ↓ldI_b, ↓ldR_b, ↓stI_b, ↓stZ_b, ↓stR_b, zk_eq, sh_wI, sh_wR, rF_wI, iF_wR, ms30 h, ms31 h, ms32 h, ms33 h, ms34 h, ms35 h, ms36 h, ms37 h, ms38 h, ms39 h, ms40 h, ms41 h, ms42 h, ms43 h, ms44 h, ms45 h, ms46 h, ms47 h, ms48 h, ms49 h, ms50 h, mr0 h, mr1 h, mr2 h, mr3 h, mr4 h, mr5 h, mr6 h, mr7 h, mr8 h, mr9 h, mr10 h, mr11 h, mr12 h, mr13 h, mr14 h, mr15 h, mr16 h, mr17 h, mr18 h, mr19 h, true_and, and_true, and_self, ↓reduceIte, Int.toNat_natCast, Int.natCast_nonneg, Nat.reduceLT, Nat.reduceLeDiff, Nat.reduceEqDiff, ne_eq, not_false_eq_true, Nat.reduceAdd, reduceCtorEq, Int.reduceLT, Int.reduceLE, Int.reduceToNat, hN, e1, e2, e3, e5, ↓zb2_of hb, z1, e7, eq_true c2, ↓zb2_of hs, e9]
      exact ih n (i + 1) _ (by omega) (by omega) (Or.inr ⟨i, by omega, rfl, c, allS (P := fun f => LtC M l k k0 (mst seen s) f → iF M 32 f ≤ iF M 32 i) (fun f hf2 q => absurd q (hf f hf2)) (fun _ => Int.le_refl _)⟩)
    · have e9 : ¬ zlt (b : Int) 0 := fun q => by have := (zlt_iff (rgN (by omega)) rg0).mp q; omega
      have b1 : (b : Int) < 4096 := by omega
      have b2 : b < 520 := by omega
      have e10 := zle_iff (hG 32 i) (hG 32 b)
      by_cases c4 : iF M 32 i ≤ iF M 32 b
      · simp only [↓gI_b, ↓gR_b, ↓pI_b, ↓pZ_b, ↓pR_b, ↓ldI_b, ↓ldR_b, ↓stI_b, ↓stZ_b, ↓stR_b, zk_eq, sh_wI, sh_wR, rF_wI, iF_wR, ms30 h, ms31 h, ms32 h, ms33 h, ms34 h, ms35 h, ms36 h, ms37 h, ms38 h, ms39 h, ms40 h, ms41 h, ms42 h, ms43 h, ms44 h, ms45 h, ms46 h, ms47 h, ms48 h, ms49 h, ms50 h, mr0 h, mr1 h, mr2 h, mr3 h, mr4 h, mr5 h, mr6 h, mr7 h, mr8 h, mr9 h, mr10 h, mr11 h, mr12 h, mr13 h, mr14 h, mr15 h, mr16 h, mr17 h, mr18 h, mr19 h, true_and, and_true, and_self, ↓reduceIte, Int.toNat_natCast, Int.natCast_nonneg, Nat.reduceLT, Nat.reduceLeDiff, Nat.reduceEqDiff, ne_eq, not_false_eq_true, Nat.reduceAdd, reduceCtorEq, Int.reduceLT, Int.reduceLE, Int.reduceToNat, hN, e1, e2, e3, e5, ↓zb2_of hb, z1, e7, eq_true c2, ↓zb2_of hs, e9, b1, b2, e10, c4]
        exact ih n (i + 1) _ (by omega) (by omega) (Or.inr ⟨b, by omega, rfl, hB, allS (P := fun f => LtC M l k k0 (mst seen s) f → iF M 32 f ≤ iF M 32 b) hm (fun _ => c4)⟩)
      · simp only [↓gI_b, ↓gR_b, ↓pI_b, ↓pZ_b, ↓pR_b, ↓ldI_b, ↓ldR_b, ↓stI_b, ↓stZ_b, ↓stR_b, zk_eq, sh_wI, sh_wR, rF_wI, iF_wR, ms30 h, ms31 h, ms32 h, ms33 h, ms34 h, ms35 h, ms36 h, ms37 h, ms38 h, ms39 h, ms40 h, ms41 h, ms42 h, ms43 h, ms44 h, ms45 h, ms46 h, ms47 h, ms48 h, ms49 h, ms50 h, mr0 h, mr1 h, mr2 h, mr3 h, mr4 h, mr5 h, mr6 h, mr7 h, mr8 h, mr9 h, mr10 h, mr11 h, mr12 h, mr13 h, mr14 h, mr15 h, mr16 h, mr17 h, mr18 h, mr19 h, true_and, and_true, and_self, ↓reduceIte, Int.toNat_natCast, Int.natCast_nonneg, Nat.reduceLT, Nat.reduceLeDiff, Nat.reduceEqDiff, ne_eq, not_false_eq_true, Nat.reduceAdd, reduceCtorEq, Int.reduceLT, Int.reduceLE, Int.reduceToNat, hN, e1, e2, e3, e5, ↓zb2_of hb, z1, e7, eq_true c2, ↓zb2_of hs, e9, b1, b2, e10, c4]
        exact ih n (i + 1) _ (by omega) (by omega) (Or.inr ⟨i, by omega, rfl, c, allS (P := fun f => LtC M l k k0 (mst seen s) f → iF M 32 f ≤ iF M 32 i) (fun f hf2 q => by have := hm f hf2 q; omega) (fun _ => Int.le_refl _)⟩)
theorem m_latest (hA : mA time sn bt seen pr tl us un M) (hB : mB N sn mem l0 l1 l2 M) (hS : sS mem l0 l1 l2) {l k s k0 : Int} {t : List En} (hl : l = -1 ∨ l = 0 ∨ l = 1 ∨ l = 2) (hk : 0 ≤ k ∧ k ≤ 10000) (hk0 : rg k0) (hV : isV seen s = true) (ht : tbl mem l0 l1 l2 l k = some t) :
    ∃ w, f_Md_latest 30 l k s k0 M = some (w, M) ∧ ((w = -1 ∧ best t k0 (mst seen s) = none) ∨ ∃ b : Nat, b < N ∧ iF M 36 b ≠ 9 ∧ w = (b : Int) ∧ best t k0 (mst seen s) = some (me M b)) := by
  obtain ⟨h, hG, a1, a2, a3, a4, a5, a6, a7⟩ := mA_iff.mp hA
  have hp := hB.tbl hS hk.1 ht
  have hsr := tbl_srd hS ht
  obtain ⟨w, h1, h2⟩ := ml_latest (k := k) h hG hB.1 hB.2.1 hA hB hl (by unfold rg; omega) hk0 hV (fun v31 M32 => some (v31, M32)) N zfu 0 (-1) (by omega) (zfu_gt hB.2.1) (Or.inl ⟨rfl, fun f hf => by omega⟩)
  refine ⟨w, ?_, ?_⟩
  · unfold f_Md_latest
    rw [zk_eq, ms30 h, if_pos rfl]
    exact h1
  · rcases h2 with ⟨hw, hf⟩ | ⟨b, hb, hw, hc, hm⟩
    · refine Or.inl ⟨hw, best_none.mpr (fun y hy h3 h4 => ?_)⟩
      obtain ⟨e, he, hle, rfl⟩ := mem_ent.mp (hp.mem_iff.mp hy)
      rw [eK_me] at h3
      rw [eS_me] at h4
      exact hf e he ⟨hle, h3, h4⟩
    · obtain ⟨c1, c2, c3⟩ := hc
      refine Or.inr ⟨b, hb, ?_, hw, best_of hsr (hp.mem_iff.mpr (mem_ent.mpr ⟨b, hb, c1, rfl⟩)) (by rw [eK_me]; exact c2) (by rw [eS_me]; exact c3) (fun y hy h3 h4 => ?_)⟩
      · intro q
        unfold lieB at c1
        simp only [Bool.and_eq_true, beq_iff_eq] at c1
        omega
      · obtain ⟨e, he, hle, rfl⟩ := mem_ent.mp (hp.mem_iff.mp hy)
        rw [eK_me] at h3
        rw [eS_me] at h4 ⊢
        rw [eS_me]
        exact hm e he ⟨hle, h3, h4⟩
set_option maxRecDepth 10000 in
theorem ml_filter (h : mSh M) (hG : RG M) (hN : iF M 30 1 = (N : Int)) (hN2 : N ≤ 520) (hBB : mB N sn mem l0 l1 l2 M) {l k : Int} (hl : l = -1 ∨ l = 0 ∨ l = 1 ∨ l = 2) (hk : rg k) (κ : Int → zHp → Option (Int × zHp)) : ∀ (d n i : Nat) (v : Int), i + d = N → d < n → (v = flt (ent M i (lieB M l k))) → ∃ w, f_Md_filter_L5 κ 30 l k n v (i : Int) M = κ w M ∧ (w = flt (ent M N (lieB M l k))) := by
  intro d
  induction d with
  | zero =>
    intro n i v hi hn hv
    obtain ⟨n, rfl⟩ : ∃ k, n = k + 1 := ⟨n - 1, by omega⟩
    unfold f_Md_filter_L5
    have e1 : zle (N : Int) (i : Int) := (zle_iff (rgN (by omega)) (rgN (by omega))).mpr (by omega)
    have hiN : i = N := by omega
    subst hiN
    refine ⟨v, ?_, hv⟩
    simp only [↓gI_b, ↓gR_b, ↓pI_b, ↓pZ_b, ↓pR_b, ↓ldI_b, ↓ldR_b, ↓stI_b, ↓stZ_b, ↓stR_b, zk_eq, sh_wI, sh_wR, rF_wI, iF_wR, ms30 h, ms31 h, ms32 h, ms33 h, ms34 h, ms35 h, ms36 h, ms37 h, ms38 h, ms39 h, ms40 h, ms41 h, ms42 h, ms43 h, ms44 h, ms45 h, ms46 h, ms47 h, ms48 h, ms49 h, ms50 h, mr0 h, mr1 h, mr2 h, mr3 h, mr4 h, mr5 h, mr6 h, mr7 h, mr8 h, mr9 h, mr10 h, mr11 h, mr12 h, mr13 h, mr14 h, mr15 h, mr16 h, mr17 h, mr18 h, mr19 h, true_and, and_true, and_self, ↓reduceIte, Int.toNat_natCast, Int.natCast_nonneg, Nat.reduceLT, Nat.reduceLeDiff, Nat.reduceEqDiff, ne_eq, not_false_eq_true, Nat.reduceAdd, reduceCtorEq, Int.reduceLT, Int.reduceLE, Int.reduceToNat, hN, e1]
  | succ d ih =>
    intro n i v hi hn hv
    obtain ⟨n, rfl⟩ : ∃ k, n = k + 1 := ⟨n - 1, by omega⟩
    unfold f_Md_filter_L5
    have e1 : ¬ zle (N : Int) (i : Int) := fun q => by have := (zle_iff (rgN (by omega)) (rgN (by omega))).mp q; omega
    have e2 : (i : Int) < 4096 := by omega
    have e3 : i < 520 := by omega
    have e5 := zaddN (i := i) (by omega)
    have hb := m_lies h hG hBB (e := i) (by omega) hl hk
    have z0 : zeq 0 0 := rfl
    have z1 : ¬ zeq 1 0 := by decide
    by_cases c1 : ¬ lieB M l k i = true
    · rw [if_neg c1] at hb
      simp only [↓gI_b, ↓gR_b, ↓pI_b, ↓pZ_b, ↓pR_b, ↓ldI_b, ↓ldR_b, ↓stI_b, ↓stZ_b, ↓stR_b, zk_eq, sh_wI, sh_wR, rF_wI, iF_wR, ms30 h, ms31 h, ms32 h, ms33 h, ms34 h, ms35 h, ms36 h, ms37 h, ms38 h, ms39 h, ms40 h, ms41 h, ms42 h, ms43 h, ms44 h, ms45 h, ms46 h, ms47 h, ms48 h, ms49 h, ms50 h, mr0 h, mr1 h, mr2 h, mr3 h, mr4 h, mr5 h, mr6 h, mr7 h, mr8 h, mr9 h, mr10 h, mr11 h, mr12 h, mr13 h, mr14 h, mr15 h, mr16 h, mr17 h, mr18 h, mr19 h, true_and, and_true, and_self, ↓reduceIte, Int.toNat_natCast, Int.natCast_nonneg, Nat.reduceLT, Nat.reduceLeDiff, Nat.reduceEqDiff, ne_eq, not_false_eq_true, Nat.reduceAdd, reduceCtorEq, Int.reduceLT, Int.reduceLE, Int.reduceToNat, hN, e1, e2, e3, e5, ↓zb2_of hb, z0]
      refine ih n (i + 1) v (by omega) (by omega) ?_
      rw [ent_self, if_neg c1, List.append_nil]; exact hv
    have c1 := Decidable.not_not.mp c1
    rw [if_pos c1] at hb
    simp only [↓gI_b, ↓gR_b, ↓pI_b, ↓pZ_b, ↓pR_b, ↓ldI_b, ↓ldR_b, ↓stI_b, ↓stZ_b, ↓stR_b, zk_eq, sh_wI, sh_wR, rF_wI, iF_wR, ms30 h, ms31 h, ms32 h, ms33 h, ms34 h, ms35 h, ms36 h, ms37 h, ms38 h, ms39 h, ms40 h, ms41 h, ms42 h, ms43 h, ms44 h, ms45 h, ms46 h, ms47 h, ms48 h, ms49 h, ms50 h, mr0 h, mr1 h, mr2 h, mr3 h, mr4 h, mr5 h, mr6 h, mr7 h, mr8 h, mr9 h, mr10 h, mr11 h, mr12 h, mr13 h, mr14 h, mr15 h, mr16 h, mr17 h, mr18 h, mr19 h, true_and, and_true, and_self, ↓reduceIte, Int.toNat_natCast, Int.natCast_nonneg, Nat.reduceLT, Nat.reduceLeDiff, Nat.reduceEqDiff, ne_eq, not_false_eq_true, Nat.reduceAdd, reduceCtorEq, Int.reduceLT, Int.reduceLE, Int.reduceToNat, hN, e1, e2, e3, e5, ↓zb2_of hb, z1]
    refine ih n (i + 1) _ (by omega) (by omega) ?_
    rw [ent_self, if_pos c1]
    unfold flt at hv ⊢
    rw [List.foldl_append, ← hv, List.foldl_cons, List.foldl_nil, eK_me, zor_as]
    rfl
theorem bnd_rg2 {g : Int} : ∀ (t : List En) (b : Int), rg b → (∀ e ∈ t, rg (eK e)) → rg (t.foldl (fun b e => if b < 0 ∨ (if g = 0 then eK e < b else b < eK e) then eK e else b) b)
  | [], b, hb, _ => hb
  | a :: t, b, hb, h => by
    rw [List.foldl_cons]
    have h1 := h a List.mem_cons_self
    refine bnd_rg2 t _ ?_ (fun e he => h e (List.mem_cons_of_mem a he))
    by_cases c : b < 0 ∨ (if g = 0 then eK a < b else b < eK a)
    · rw [if_pos c]; exact h1
    · rw [if_neg c]; exact hb
theorem bnd_rg {g : Int} {i : Nat} {p : Nat → Bool} (hG : RG M) : rg (bnd g (ent M i p)) := bnd_rg2 _ _ rgm1 (fun e he => by
  obtain ⟨j, -, -, rfl⟩ := mem_ent.mp he
  rw [eK_me]
  exact hG 31 j)
set_option maxRecDepth 10000 in
theorem ml_bound (h : mSh M) (hG : RG M) (hN : iF M 30 1 = (N : Int)) (hN2 : N ≤ 520) (hBB : mB N sn mem l0 l1 l2 M) {l k g : Int} (hl : l = -1 ∨ l = 0 ∨ l = 1 ∨ l = 2) (hk : rg k) (hg : rg g) (κ : Int → zHp → Option (Int × zHp)) : ∀ (d n i : Nat) (v : Int), i + d = N → d < n → (v = bnd g (ent M i (lieB M l k))) → ∃ w, f_Md_bound_L6 κ 30 l k g n v (i : Int) M = κ w M ∧ (w = bnd g (ent M N (lieB M l k))) := by
  intro d
  induction d with
  | zero =>
    intro n i v hi hn hv
    obtain ⟨n, rfl⟩ : ∃ k, n = k + 1 := ⟨n - 1, by omega⟩
    unfold f_Md_bound_L6
    have e1 : zle (N : Int) (i : Int) := (zle_iff (rgN (by omega)) (rgN (by omega))).mpr (by omega)
    have hiN : i = N := by omega
    subst hiN
    refine ⟨v, ?_, hv⟩
    simp only [↓gI_b, ↓gR_b, ↓pI_b, ↓pZ_b, ↓pR_b, ↓ldI_b, ↓ldR_b, ↓stI_b, ↓stZ_b, ↓stR_b, zk_eq, sh_wI, sh_wR, rF_wI, iF_wR, ms30 h, ms31 h, ms32 h, ms33 h, ms34 h, ms35 h, ms36 h, ms37 h, ms38 h, ms39 h, ms40 h, ms41 h, ms42 h, ms43 h, ms44 h, ms45 h, ms46 h, ms47 h, ms48 h, ms49 h, ms50 h, mr0 h, mr1 h, mr2 h, mr3 h, mr4 h, mr5 h, mr6 h, mr7 h, mr8 h, mr9 h, mr10 h, mr11 h, mr12 h, mr13 h, mr14 h, mr15 h, mr16 h, mr17 h, mr18 h, mr19 h, true_and, and_true, and_self, ↓reduceIte, Int.toNat_natCast, Int.natCast_nonneg, Nat.reduceLT, Nat.reduceLeDiff, Nat.reduceEqDiff, ne_eq, not_false_eq_true, Nat.reduceAdd, reduceCtorEq, Int.reduceLT, Int.reduceLE, Int.reduceToNat, hN, e1]
  | succ d ih =>
    intro n i v hi hn hv
    obtain ⟨n, rfl⟩ : ∃ k, n = k + 1 := ⟨n - 1, by omega⟩
    unfold f_Md_bound_L6
    have e1 : ¬ zle (N : Int) (i : Int) := fun q => by have := (zle_iff (rgN (by omega)) (rgN (by omega))).mp q; omega
    have e2 : (i : Int) < 4096 := by omega
    have e3 : i < 520 := by omega
    have e5 := zaddN (i := i) (by omega)
    have hb := m_lies h hG hBB (e := i) (by omega) hl hk
    have z0 : zeq 0 0 := rfl
    have z1 : ¬ zeq 1 0 := by decide
    have hvr : rg v := by rw [hv]; exact bnd_rg hG
    have e6 := zlt_iff hvr rg0
    have e7 := zeq_iff hg rg0
    have e8 := zle_iff hvr (hG 31 i)
    have e9 := zle_iff (hG 31 i) hvr
    by_cases c1 : ¬ lieB M l k i = true
    · rw [if_neg c1] at hb
      simp only [↓gI_b, ↓gR_b, ↓pI_b, ↓pZ_b, ↓pR_b, ↓ldI_b, ↓ldR_b, ↓stI_b, ↓stZ_b, ↓stR_b, zk_eq, sh_wI, sh_wR, rF_wI, iF_wR, ms30 h, ms31 h, ms32 h, ms33 h, ms34 h, ms35 h, ms36 h, ms37 h, ms38 h, ms39 h, ms40 h, ms41 h, ms42 h, ms43 h, ms44 h, ms45 h, ms46 h, ms47 h, ms48 h, ms49 h, ms50 h, mr0 h, mr1 h, mr2 h, mr3 h, mr4 h, mr5 h, mr6 h, mr7 h, mr8 h, mr9 h, mr10 h, mr11 h, mr12 h, mr13 h, mr14 h, mr15 h, mr16 h, mr17 h, mr18 h, mr19 h, true_and, and_true, and_self, ↓reduceIte, Int.toNat_natCast, Int.natCast_nonneg, Nat.reduceLT, Nat.reduceLeDiff, Nat.reduceEqDiff, ne_eq, not_false_eq_true, Nat.reduceAdd, reduceCtorEq, Int.reduceLT, Int.reduceLE, Int.reduceToNat, hN, e1, e2, e3, e5, ↓zb2_of hb, z0]
      refine ih n (i + 1) v (by omega) (by omega) ?_
      rw [ent_self, if_neg c1, List.append_nil]; exact hv
    have c1 := Decidable.not_not.mp c1
    rw [if_pos c1] at hb
    have hst : bnd g (ent M (i + 1) (lieB M l k)) = if v < 0 ∨ (if g = 0 then iF M 31 i < v else v < iF M 31 i) then iF M 31 i else v := by
      rw [ent_self, if_pos c1]
      unfold bnd at hv ⊢
      rw [List.foldl_append, ← hv, List.foldl_cons, List.foldl_nil, eK_me]
    by_cases c2 : v < 0
    · simp only [↓gI_b, ↓gR_b, ↓pI_b, ↓pZ_b, ↓pR_b, ↓ldI_b, ↓ldR_b, ↓stI_b, ↓stZ_b, ↓stR_b, zk_eq, sh_wI, sh_wR, rF_wI, iF_wR, ms30 h, ms31 h, ms32 h, ms33 h, ms34 h, ms35 h, ms36 h, ms37 h, ms38 h, ms39 h, ms40 h, ms41 h, ms42 h, ms43 h, ms44 h, ms45 h, ms46 h, ms47 h, ms48 h, ms49 h, ms50 h, mr0 h, mr1 h, mr2 h, mr3 h, mr4 h, mr5 h, mr6 h, mr7 h, mr8 h, mr9 h, mr10 h, mr11 h, mr12 h, mr13 h, mr14 h, mr15 h, mr16 h, mr17 h, mr18 h, mr19 h, true_and, and_true, and_self, ↓reduceIte, Int.toNat_natCast, Int.natCast_nonneg, Nat.reduceLT, Nat.reduceLeDiff, Nat.reduceEqDiff, ne_eq, not_false_eq_true, Nat.reduceAdd, reduceCtorEq, Int.reduceLT, Int.reduceLE, Int.reduceToNat, hN, e1, e2, e3, e5, ↓zb2_of hb, z1, e6, c2]
      exact ih n (i + 1) _ (by omega) (by omega) (by rw [hst, if_pos (Or.inl c2)])
    by_cases c3 : g = 0
    · simp only [eq_true c3, if_true] at hst
      by_cases c4 : v ≤ iF M 31 i
      · simp only [↓gI_b, ↓gR_b, ↓pI_b, ↓pZ_b, ↓pR_b, ↓ldI_b, ↓ldR_b, ↓stI_b, ↓stZ_b, ↓stR_b, zk_eq, sh_wI, sh_wR, rF_wI, iF_wR, ms30 h, ms31 h, ms32 h, ms33 h, ms34 h, ms35 h, ms36 h, ms37 h, ms38 h, ms39 h, ms40 h, ms41 h, ms42 h, ms43 h, ms44 h, ms45 h, ms46 h, ms47 h, ms48 h, ms49 h, ms50 h, mr0 h, mr1 h, mr2 h, mr3 h, mr4 h, mr5 h, mr6 h, mr7 h, mr8 h, mr9 h, mr10 h, mr11 h, mr12 h, mr13 h, mr14 h, mr15 h, mr16 h, mr17 h, mr18 h, mr19 h, true_and, and_true, and_self, ↓reduceIte, Int.toNat_natCast, Int.natCast_nonneg, Nat.reduceLT, Nat.reduceLeDiff, Nat.reduceEqDiff, ne_eq, not_false_eq_true, Nat.reduceAdd, reduceCtorEq, Int.reduceLT, Int.reduceLE, Int.reduceToNat, hN, e1, e2, e3, e5, ↓zb2_of hb, z1, e6, c2, e7, eq_true c3, e8, c4]
        exact ih n (i + 1) _ (by omega) (by omega) (by rw [hst, if_neg (by omega)])
      · simp only [↓gI_b, ↓gR_b, ↓pI_b, ↓pZ_b, ↓pR_b, ↓ldI_b, ↓ldR_b, ↓stI_b, ↓stZ_b, ↓stR_b, zk_eq, sh_wI, sh_wR, rF_wI, iF_wR, ms30 h, ms31 h, ms32 h, ms33 h, ms34 h, ms35 h, ms36 h, ms37 h, ms38 h, ms39 h, ms40 h, ms41 h, ms42 h, ms43 h, ms44 h, ms45 h, ms46 h, ms47 h, ms48 h, ms49 h, ms50 h, mr0 h, mr1 h, mr2 h, mr3 h, mr4 h, mr5 h, mr6 h, mr7 h, mr8 h, mr9 h, mr10 h, mr11 h, mr12 h, mr13 h, mr14 h, mr15 h, mr16 h, mr17 h, mr18 h, mr19 h, true_and, and_true, and_self, ↓reduceIte, Int.toNat_natCast, Int.natCast_nonneg, Nat.reduceLT, Nat.reduceLeDiff, Nat.reduceEqDiff, ne_eq, not_false_eq_true, Nat.reduceAdd, reduceCtorEq, Int.reduceLT, Int.reduceLE, Int.reduceToNat, hN, e1, e2, e3, e5, ↓zb2_of hb, z1, e6, c2, e7, eq_true c3, e8, c4]
        exact ih n (i + 1) _ (by omega) (by omega) (by rw [hst, if_pos (by omega)])
    · simp only [c3, if_false] at hst
      by_cases c4 : iF M 31 i ≤ v
      · simp only [↓gI_b, ↓gR_b, ↓pI_b, ↓pZ_b, ↓pR_b, ↓ldI_b, ↓ldR_b, ↓stI_b, ↓stZ_b, ↓stR_b, zk_eq, sh_wI, sh_wR, rF_wI, iF_wR, ms30 h, ms31 h, ms32 h, ms33 h, ms34 h, ms35 h, ms36 h, ms37 h, ms38 h, ms39 h, ms40 h, ms41 h, ms42 h, ms43 h, ms44 h, ms45 h, ms46 h, ms47 h, ms48 h, ms49 h, ms50 h, mr0 h, mr1 h, mr2 h, mr3 h, mr4 h, mr5 h, mr6 h, mr7 h, mr8 h, mr9 h, mr10 h, mr11 h, mr12 h, mr13 h, mr14 h, mr15 h, mr16 h, mr17 h, mr18 h, mr19 h, true_and, and_true, and_self, ↓reduceIte, Int.toNat_natCast, Int.natCast_nonneg, Nat.reduceLT, Nat.reduceLeDiff, Nat.reduceEqDiff, ne_eq, not_false_eq_true, Nat.reduceAdd, reduceCtorEq, Int.reduceLT, Int.reduceLE, Int.reduceToNat, hN, e1, e2, e3, e5, ↓zb2_of hb, z1, e6, c2, e7, c3, e9, c4]
        exact ih n (i + 1) _ (by omega) (by omega) (by rw [hst, if_neg (by omega)])
      · simp only [↓gI_b, ↓gR_b, ↓pI_b, ↓pZ_b, ↓pR_b, ↓ldI_b, ↓ldR_b, ↓stI_b, ↓stZ_b, ↓stR_b, zk_eq, sh_wI, sh_wR, rF_wI, iF_wR, ms30 h, ms31 h, ms32 h, ms33 h, ms34 h, ms35 h, ms36 h, ms37 h, ms38 h, ms39 h, ms40 h, ms41 h, ms42 h, ms43 h, ms44 h, ms45 h, ms46 h, ms47 h, ms48 h, ms49 h, ms50 h, mr0 h, mr1 h, mr2 h, mr3 h, mr4 h, mr5 h, mr6 h, mr7 h, mr8 h, mr9 h, mr10 h, mr11 h, mr12 h, mr13 h, mr14 h, mr15 h, mr16 h, mr17 h, mr18 h, mr19 h, true_and, and_true, and_self, ↓reduceIte, Int.toNat_natCast, Int.natCast_nonneg, Nat.reduceLT, Nat.reduceLeDiff, Nat.reduceEqDiff, ne_eq, not_false_eq_true, Nat.reduceAdd, reduceCtorEq, Int.reduceLT, Int.reduceLE, Int.reduceToNat, hN, e1, e2, e3, e5, ↓zb2_of hb, z1, e6, c2, e7, c3, e9, c4]
        exact ih n (i + 1) _ (by omega) (by omega) (by rw [hst, if_pos (by omega)])
theorem m_filter (hA : mA time sn bt seen pr tl us un M) (hB : mB N sn mem l0 l1 l2 M) (hS : sS mem l0 l1 l2) {l k : Int} {t : List En} (hl : l = -1 ∨ l = 0 ∨ l = 1 ∨ l = 2) (hk : 0 ≤ k ∧ k ≤ 10000) (ht : tbl mem l0 l1 l2 l k = some t) : f_Md_filter 30 l k M = some (flt t, M) := by
  obtain ⟨h, hG, a1, a2, a3, a4, a5, a6, a7⟩ := mA_iff.mp hA
  obtain ⟨w, h1, h2⟩ := ml_filter (k := k) h hG hB.1 hB.2.1 hB hl (by unfold rg; omega) (fun v31 M32 => some (v31, M32)) N zfu 0 0 (by omega) (zfu_gt hB.2.1) rfl
  unfold f_Md_filter
  rw [zk_eq, ms30 h, if_pos rfl, flt_perm (hB.tbl hS hk.1 ht), ← h2]
  exact h1
theorem mB.keys (hB : mB N sn mem l0 l1 l2 M) {p : Nat → Bool} : ∀ e ∈ ent M N p, 0 ≤ eK e := fun e he => by
  obtain ⟨j, hj, -, rfl⟩ := mem_ent.mp he
  rw [eK_me]
  exact (hB.2.2.2.2.1 j hj).2.2.2.1
theorem m_bound (hA : mA time sn bt seen pr tl us un M) (hB : mB N sn mem l0 l1 l2 M) (hS : sS mem l0 l1 l2) {l k g : Int} {t : List En} (hl : l = -1 ∨ l = 0 ∨ l = 1 ∨ l = 2) (hk : 0 ≤ k ∧ k ≤ 10000) (hg : g = 0 ∨ g = 1) (ht : tbl mem l0 l1 l2 l k = some t) : f_Md_bound 30 l k g M = some (if g = 0 then hdK t else laK t, M) := by
  obtain ⟨h, hG, a1, a2, a3, a4, a5, a6, a7⟩ := mA_iff.mp hA
  obtain ⟨w, h1, h2⟩ := ml_bound (k := k) h hG hB.1 hB.2.1 hB hl (by unfold rg; omega) (rg01 hg) (fun v31 M32 => some (v31, M32)) N zfu 0 (-1) (by omega) (zfu_gt hB.2.1) rfl
  have e : (if g = 0 then hdK t else laK t) = w := by
    rw [h2]
    rcases hg with rfl | rfl
    · rw [if_pos rfl]; exact (bnd_hd (hB.tbl hS hk.1 ht) (tbl_srd hS ht) hB.keys).symm
    · rw [if_neg (by decide)]; exact (bnd_la (hB.tbl hS hk.1 ht) (tbl_srd hS ht) hB.keys).symm
  unfold f_Md_bound
  rw [zk_eq, ms30 h, if_pos rfl, e]
  exact h1
end MD23
