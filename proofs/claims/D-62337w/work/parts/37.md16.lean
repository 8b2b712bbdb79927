-- collecting in the model: entries move
/-- by cells, strictly -/
def srdC (l : List En) : Prop := l.Pairwise (fun a b => eC a < eC b)
theorem rel_out {tl : Int} {mv : List (Int × Int × Int)} {e : En} (h : ¬ (eD e = 0 ∧ eG e = tl)) : rel tl mv e = e := by unfold rel; rw [if_neg h]
theorem rel_nil {tl : Int} {e : En} : rel tl [] e = e := by unfold rel; split <;> rfl
theorem rel_hit {tl c g a : Int} {mv : List (Int × Int × Int)} {e : En} (h : eD e = 0 ∧ eG e = tl) (hc : eC e = c) : rel tl ((c, g, a) :: mv) e = (eK e, eS e, eD e, eX e, eV e, g, a) := by
  unfold rel
  rw [if_pos h, List.find?_cons_of_pos (by simp [hc])]
theorem rel_mis {tl c g a : Int} {mv : List (Int × Int × Int)} {e : En} (hc : eC e ≠ c) : rel tl ((c, g, a) :: mv) e = rel tl mv e := by
  unfold rel
  by_cases h : eD e = 0 ∧ eG e = tl
  · rw [if_pos h, if_pos h, List.find?_cons_of_neg (by simp; exact fun q => hc q.symm)]
  · rw [if_neg h, if_neg h]
theorem rel_KS {tl : Int} {mv : List (Int × Int × Int)} (e : En) : eK (rel tl mv e) = eK e ∧ eS (rel tl mv e) = eS e ∧ eD (rel tl mv e) = eD e ∧ eX (rel tl mv e) = eX e ∧ eV (rel tl mv e) = eV e := by
  unfold rel
  split
  · split <;> exact ⟨rfl, rfl, rfl, rfl, rfl⟩
  · exact ⟨rfl, rfl, rfl, rfl, rfl⟩
theorem rel_cons {tl c g a : Int} {mv : List (Int × Int × Int)} (hg : g ≠ tl) (e : En) : rel tl mv (rel tl [(c, g, a)] e) = rel tl ((c, g, a) :: mv) e := by
  by_cases h : eD e = 0 ∧ eG e = tl
  · by_cases hc : eC e = c
    · rw [rel_hit h hc, rel_hit h hc]
      exact rel_out (fun q => hg q.2)
    · rw [rel_mis hc, rel_nil, rel_mis hc]
  · rw [rel_out h, rel_out h, rel_out h]
theorem rel_app {tl : Int} {m2 : List (Int × Int × Int)} : ∀ {m1 : List (Int × Int × Int)} (h : ∀ q ∈ m1, q.2.1 ≠ tl) (e : En), rel tl m2 (rel tl m1 e) = rel tl (m1 ++ m2) e
  | [], _, e => by rw [rel_nil]; rfl
  | (c, g, a) :: m1, h, e => by
    have hg : g ≠ tl := h (c, g, a) List.mem_cons_self
    have ih := rel_app (m2 := m2) (m1 := m1) (fun q hq => h q (List.mem_cons_of_mem _ hq)) (rel tl [(c, g, a)] e)
    rw [rel_cons hg, rel_cons hg] at ih
    exact ih
theorem plc_seg {g a : Int} : ∀ {l : List En} {a : Int}, ∀ q ∈ plc g a l, q.2.1 = g
  | [], _, q, hq => by cases hq
  | e :: l, a, q, hq => by
    rcases List.mem_cons.mp hq with rfl | hq
    · rfl
    · exact plc_seg (a := a) (l := l) q hq
theorem perm_take {p : Nat → Bool} {b N : Nat} (hb : b < N) (hp : p b = true) : ((List.range N).filter p).Perm (b :: (List.range N).filter (fun e => p e && !(e == b))) := by
  have h1 := filter_or_perm (fun e => e == b) (fun e => p e && !(e == b)) (List.range N) (fun x _ q => by
    have q1 : x = b := by simpa using q.1
    have q2 := q.2
    simp [q1] at q2)
  have e1 : (List.range N).filter (fun x => (x == b) || (p x && !(x == b))) = (List.range N).filter p := by
    apply List.filter_congr
    intro x _
    by_cases c : x = b
    · simp [c, hp]
    · have : (x == b) = false := by simpa using c
      simp [this]
  have e2 : (List.range N).filter (fun e => e == b) = [b] := by
    have : ∀ n, b < n → (List.range n).filter (fun e => e == b) = [b] := by
      intro n
      induction n with
      | zero => intro h; omega
      | succ n ih =>
        intro h
        rw [List.range_succ, List.filter_append]
        by_cases c : b = n
        · subst c
          have : (List.range b).filter (fun e => e == b) = [] := by
            rw [List.filter_eq_nil_iff]
            intro x hx
            have := List.mem_range.mp hx
            simp
            omega
          rw [this]
          simp
        · rw [ih (by omega)]
          have : (n == b) = false := by simp; omega
          simp [this]
    exact this N hb
  rw [e1, e2] at h1
  exact h1
section MD18
variable {N : Nat} {tl : Int}
set_option maxRecDepth 10000 in
/-- the places of one record -/
theorem ml_coll (htl : rg tl) {g m at0 : Int} (hg : g ≠ tl) (hgr : rg g) (hm : 0 ≤ m ∧ m ≤ 6) (ha : 0 ≤ at0 ∧ at0 ≤ 100) (hN2 : N ≤ 520) (κ : zHp → Option (Int × zHp)) :
    ∀ (d n k : Nat) (R : List En) (P : zHp), (k : Int) + d = m → d < n → d ≤ R.length → mSh P → RG P → iF P 30 1 = (N : Int) → iF P 30 6 = tl → iF P 30 7 = g → (∀ e, e < N → iF P 34 e = 0 ∨ iF P 34 e = 1) → eU P N → srdC R → R.Perm (ent P N (isl P tl)) →
      ∃ Q, f_Md_collect_L81 κ 30 m at0 n (k : Int) P = κ Q ∧ mFr P Q ∧ RG Q ∧ (∀ q j, q ≠ 38 → q ≠ 39 → iF Q q j = iF P q j) ∧ (∀ e, e < N → iF P 36 e ≠ 9 → me Q e = rel tl (plc g (at0 + k) (R.take d)) (me P e)) ∧ (R.drop d).Perm (ent Q N (isl Q tl)) := by
  intro d
  induction d with
  | zero =>
    intro n k R P hk hn hd h hG hN hT h7 hD hU hs hR
    obtain ⟨n, rfl⟩ : ∃ k, n = k + 1 := ⟨n - 1, by omega⟩
    unfold f_Md_collect_L81
    have e1 : zle m (k : Int) := (zle_iff (by unfold rg; omega) (rgN (by omega))).mpr (by omega)
    refine ⟨P, ?_, mFr.rf P, hG, fun _ _ _ _ => rfl, fun e _ _ => by simp [plc, rel_nil], by simpa using hR⟩
    simp only [e1, if_true]
  | succ d ih =>
    intro n k R P hk hn hd h hG hN hT h7 hD hU hs hR
    obtain ⟨n, rfl⟩ : ∃ k, n = k + 1 := ⟨n - 1, by omega⟩
    cases R with
    | nil => simp at hd
    | cons r R =>
      simp only [List.length_cons] at hd
      unfold f_Md_collect_L81
      have e1 : ¬ zle m (k : Int) := fun q => by have := (zle_iff (by unfold rg; omega) (rgN (by omega))).mp q; omega
      have e5 := zaddN (i := k) (by omega)
      obtain ⟨w, hw, hwi⟩ := m_nextLive h hG hN hN2 hT htl
      have hmem : ∀ x, x ∈ r :: R ↔ ∃ e, e < N ∧ isl P tl e = true ∧ me P e = x := fun x => (hR.mem_iff).trans mem_ent
      obtain ⟨f0, hf0, hl0, hr0⟩ := (hmem r).mp List.mem_cons_self
      rcases hwi with ⟨rfl, hno⟩ | ⟨b, hb, rfl, hB, hmin⟩
      · exact absurd hl0 (hno f0 hf0)
      have hC : ∀ e, isl P tl e = true → eC (me P e) = iF P 39 e ∧ eG (me P e) = iF P 38 e ∧ eD (me P e) = 0 := by
        intro e he
        obtain ⟨-, q2, -⟩ := isl_iff.mp he
        unfold me eC eG eD
        simp [q2]
      have hs' := List.pairwise_cons.mp hs
      have hbr : me P b = r := by
        have hb2 : me P b ∈ r :: R := (hmem _).mpr ⟨b, hb, hB, rfl⟩
        rcases List.mem_cons.mp hb2 with q | q
        · exact q
        · have h1 := hs'.1 _ q
          have h2 := hmin f0 hf0 hl0
          rw [(hC b hB).1] at h1
          rw [← hr0, (hC f0 hl0).1] at h1
          omega
      have b1 : (b : Int) < 4096 := by omega
      have b2 : b < 520 := by omega
      have e6 : zadd at0 (k : Int) = at0 + k := zadd_eq (by omega) (by omega)
      generalize hQ : wI (wI P 38 b g) 39 b (at0 + k) = Q
      have hF : mFr P Q := by rw [← hQ]; exact (mFr.wI P (by decide) (by decide)).tr (mFr.wI _ (by decide) (by decide))
      have hI : ∀ q j, q ≠ 38 → q ≠ 39 → iF Q q j = iF P q j := fun q j h1 h2 => by rw [← hQ, wIq h2, wIq h1]
      have q38 : ∀ e, iF Q 38 e = if e = b then g else iF P 38 e := fun e => by
        rw [← hQ, wIq (by decide), iF_wI, ms38 h]
        by_cases c : e = b
        · simp [c, b2]
        · simp [c]
      have q39 : ∀ e, iF Q 39 e = if e = b then at0 + k else iF P 39 e := fun e => by
        rw [← hQ, iF_wI, sh_wI, ms39 h, wIq (by decide)]
        by_cases c : e = b
        · simp [c, b2]
        · simp [c]
      have hGQ : RG Q := by rw [← hQ]; exact RG_wI (RG_wI hG hgr) (by unfold rg; omega)
      have hmo : ∀ e, e ≠ b → me Q e = me P e := fun e he => by
        unfold me
        rw [hI 34 _ (by decide) (by decide), hI 31 _ (by decide) (by decide), hI 32 _ (by decide) (by decide), hI 35 _ (by decide) (by decide), hI 33 _ (by decide) (by decide), q38, q39, if_neg he, if_neg he]
      obtain ⟨bl1, bl2, bl3⟩ := isl_iff.mp hB
      have hmb : me Q b = (eK r, eS r, eD r, eX r, eV r, g, at0 + k) := by
        rw [← hbr]
        unfold me eK eS eD eX eV
        rw [hI 34 _ (by decide) (by decide), hI 31 _ (by decide) (by decide), hI 32 _ (by decide) (by decide), hI 35 _ (by decide) (by decide), hI 33 _ (by decide) (by decide), q38, q39, if_pos rfl, if_pos rfl]
        simp [bl2]
      have hil : ∀ e, isl Q tl e = (isl P tl e && !(e == b)) := fun e => by
        unfold isl
        rw [hI 36 _ (by decide) (by decide), hI 34 _ (by decide) (by decide), q38]
        by_cases c : e = b
        · subst c
          have : (g == tl) = false := by simpa using hg
          simp [this]
        · have : (e == b) = false := by simpa using c
          simp [c, this]
      have hR2 : R.Perm (ent Q N (isl Q tl)) := by
        have h1 := (perm_take hb hB).map (me P)
        have h2 : (r :: R).Perm (me P b :: ((List.range N).filter (fun e => isl P tl e && !(e == b))).map (me P)) := hR.trans h1
        rw [hbr] at h2
        have h3 := List.Perm.cons_inv h2
        refine h3.trans (List.Perm.of_eq ?_)
        exact ent_cg (fun e _ => (hil e).symm) (fun e _ he => by
          have : e ≠ b := by
            intro q
            rw [hil, q] at he
            simp at he
          exact (hmo e this).symm)
      obtain ⟨Q2, r1, r2, r3, r4, r5, r6⟩ := ih n (k + 1) R Q (by omega) (by omega) (by omega) (hF.mSh h) hGQ (by rw [hI 30 1 (by decide) (by decide)]; exact hN) (by rw [hI 30 6 (by decide) (by decide)]; exact hT) (by rw [hI 30 7 (by decide) (by decide)]; exact h7) (fun e he => by rw [hI 34 e (by decide) (by decide)]; exact hD e he) (fun e f he hf => by rw [hI 36 e (by decide) (by decide), hI 36 f (by decide) (by decide), hI 32 e (by decide) (by decide), hI 32 f (by decide) (by decide)]; exact hU e f he hf) hs'.2 hR2
      refine ⟨Q2, ?_, hF.tr r2, r3, fun q j h1 h2 => (r4 q j h1 h2).trans (hI q j h1 h2), fun e he h9 => ?_, r6⟩
      · have w7 : ∀ (A : zHp) (j : Nat) (y : Int), iF (wI A 38 j y) 30 7 = iF A 30 7 := fun A j y => wIq (by decide)
        simp only [↓gI_b, ↓gR_b, ↓pI_b, ↓pZ_b, ↓pR_b, ↓ldI_b, ↓ldR_b, ↓stI_b, ↓stZ_b, ↓stR_b, zk_eq, sh_wI, sh_wR, rF_wI, iF_wR, ms30 h, ms38 h, ms39 h, mr7 h, mr8 h, true_and, and_true, and_self, ↓reduceIte, Int.toNat_natCast, Int.natCast_nonneg, Nat.reduceLT, Nat.reduceLeDiff, Nat.reduceEqDiff, ne_eq, not_false_eq_true, Nat.reduceAdd, reduceCtorEq, Int.reduceLT, Int.reduceLE, Int.reduceToNat, e1, ↓zb2_of hw, h7, w7, b1, b2, e6, hQ, e5]
        exact r1
      · have h5 := r5 e he (by rw [hI 36 e (by decide) (by decide)]; exact h9)
        rw [h5]
        have e7 : plc g (at0 + k) ((r :: R).take (d + 1)) = (eC r, g, at0 + k) :: plc g (at0 + (k + 1 : Nat)) (R.take d) := by
          rw [List.take_succ_cons]
          show (eC r, g, at0 + k) :: plc g (at0 + k + 1) (R.take d) = _
          congr 2
          omega
        rw [e7, ← rel_cons hg]
        congr 1
        by_cases c : e = b
        · subst c
          rw [hmb, hbr]
          have hh := hC e hB
          rw [hbr, bl3] at hh
          exact (rel_hit ⟨hh.2.2, hh.2.1⟩ rfl).symm
        · rw [hmo e c]
          by_cases hl : isl P tl e = true
          · have hne : eC (me P e) ≠ eC r := by
              intro hce
              have hin : me P e ∈ r :: R := (hmem _).mpr ⟨e, he, hl, rfl⟩
              rcases List.mem_cons.mp hin with q | q
              · have h8 : iF P 32 e = iF P 32 b := by
                  have := congrArg eS (q.trans hbr.symm)
                  rw [eS_me, eS_me] at this
                  exact this
                exact c (hU e b he hb (isl_iff.mp hl).1 bl1 h8)
              · have := hs'.1 _ q
                omega
            rw [rel_mis hne, rel_nil]
          · refine (rel_out ?_).symm
            rintro ⟨q1, q2⟩
            apply hl
            rw [isl_me (hD e he)]
            simp [h9, q1, q2]
end MD18
section MD19
variable {M : zHp} {N : Nat} {time sn : Int} {bt : List Bt} {seen : List Int} {pr tl : Int} {us vs : List Int} {u : Int} {un : List Un} {mem : List En} {l0 : List (List En)} {l1 l2 : List En}
theorem rec1_ne (us : List Int) (n : Int) : ∃ ws w, (rec1 us n).1 = ws ++ [w] := by
  unfold rec1
  split
  · exact ⟨us, _, rfl⟩
  · exact ⟨us.dropLast, _, rfl⟩
/-- all records: entries go to their new places -/
theorem ml_coll2 (htl : 0 ≤ tl ∧ tl ≤ 90000) (hN2 : N ≤ 520) (κ : zHp → Option (Int × zHp)) :
    ∀ (f n : Nat) (R : List En) (vs : List Int) (u : Int) (P : zHp), R.length ≤ 6 * f → R.length ≤ 100 → f < n → 1 ≤ vs.length → vs.length ≤ 7 → 0 ≤ u → u ≤ 16 → ((vs.length + 1 : Nat) : Int) + hdsN f u R.length ≤ 8 → mA time sn bt seen pr tl (vs ++ [u]) un P → iF P 30 1 = (N : Int) → (∀ e, e < N → iF P 34 e = 0 ∨ iF P 34 e = 1) → eU P N → srdC R → R.Perm (ent P N (isl P tl)) →
      ∃ Q, f_Md_collect_L54 κ 30 n (R.length : Int) P = κ Q ∧ mFr P Q ∧ mA time sn bt seen pr tl (movN f tl (vs ++ [u]) R).1 un Q ∧ (∀ q j, q ≠ 38 → q ≠ 39 → ¬ (q = 30 ∧ j = 7) → q ≠ 47 → iF Q q j = iF P q j) ∧ (∀ e, e < N → iF P 36 e ≠ 9 → me Q e = rel tl (movN f tl (vs ++ [u]) R).2 (me P e)) ∧ 2 ≤ (movN f tl (vs ++ [u]) R).1.length ∧ (movN f tl (vs ++ [u]) R).1.length ≤ 8 := by
  intro f
  induction f with
  | zero =>
    intro n R vs u P hf1 hf2 hn hv1 hv2 hu1 hu2 hcap hA hN hD hU hs hR
    obtain ⟨n, rfl⟩ : ∃ k, n = k + 1 := ⟨n - 1, by omega⟩
    have hR0 : R = [] := List.length_eq_zero_iff.mp (by omega)
    subst hR0
    unfold f_Md_collect_L54 movN
    refine ⟨P, ?_, mFr.rf P, hA, fun _ _ _ _ _ _ => rfl, fun e _ _ => rel_nil.symm, by simp; omega, by simp; omega⟩
    have e1 : zle ((([] : List En).length : Nat) : Int) 0 := by decide
    simp only [e1, if_true]
  | succ f ih =>
    intro n R vs u P hf1 hf2 hn hv1 hv2 hu1 hu2 hcap hA hN hD hU hs hR
    obtain ⟨n, rfl⟩ : ∃ k, n = k + 1 := ⟨n - 1, by omega⟩
    unfold f_Md_collect_L54 movN
    by_cases hR0 : R = []
    · subst hR0
      refine ⟨P, ?_, mFr.rf P, hA, fun _ _ _ _ _ _ => rfl, fun e _ _ => rel_nil.symm, by simp; omega, by simp; omega⟩
      have e1 : zle ((([] : List En).length : Nat) : Int) 0 := by decide
      simp only [e1, if_true]
    have hl1 : 1 ≤ R.length := by
      cases R with
      | nil => exact absurd rfl hR0
      | cons _ _ => simp
    have hie : R.isEmpty = false := by
      cases R with
      | nil => exact absurd rfl hR0
      | cons _ _ => rfl
    have e1 : ¬ zle (R.length : Int) 0 := fun q => by have := (zle_iff (rgN (by omega)) rg0).mp q; omega
    have e2 := zle_iff (x := 6) (y := (R.length : Int)) (by unfold rg; omega) (rgN (by omega))
    have e3 : zsub (R.length : Int) 6 = R.length - 6 := zsub_eq (by omega) (by omega)
    -- the record's size
    have key : ∀ m : Nat, (R.take 6).length = m → 1 ≤ m → m ≤ 6 → ((if (R.length : Int) < 6 then (R.length : Int) else 6) = m) → ∀ K : zHp → Option (Int × zHp), (∀ A, K A = f_Md_collect_L54 κ 30 n (zsub (R.length : Int) 6) A) →
        ∃ Q, (zb2 (f_Md_record 30 (m : Int) P) fun x25 M24 => f_Md_collect_L81 K 30 (m : Int) x25 zfu 0 M24) = κ Q ∧ mFr P Q ∧ mA time sn bt seen pr tl (movN f tl (rec1 (vs ++ [u]) (Int.ofNat (R.take 6).length)).1 (R.drop 6)).1 un Q ∧ (∀ q j, q ≠ 38 → q ≠ 39 → ¬ (q = 30 ∧ j = 7) → q ≠ 47 → iF Q q j = iF P q j) ∧ (∀ e, e < N → iF P 36 e ≠ 9 → me Q e = rel tl (plc (tl + Int.ofNat (rec1 (vs ++ [u]) (Int.ofNat (R.take 6).length)).1.length - 1) (rec1 (vs ++ [u]) (Int.ofNat (R.take 6).length)).2 (R.take 6) ++ (movN f tl (rec1 (vs ++ [u]) (Int.ofNat (R.take 6).length)).1 (R.drop 6)).2) (me P e)) ∧ 2 ≤ (movN f tl (rec1 (vs ++ [u]) (Int.ofNat (R.take 6).length)).1 (R.drop 6)).1.length ∧ (movN f tl (rec1 (vs ++ [u]) (Int.ofNat (R.take 6).length)).1 (R.drop 6)).1.length ≤ 8 := by
      intro m hm hm1 hm6 hmi K hK
      have hdl : (R.drop 6).length = R.length - 6 := List.length_drop
      have htl6 : (R.take 6).length = min 6 R.length := List.length_take
      have hml : m ≤ R.length := by omega
      have hcap2 : (16 < u + 1 + (m : Int) → vs.length < 7) ∧ ∃ ws w, (rec1 (vs ++ [u]) (m : Int)).1 = ws ++ [w] ∧ 1 ≤ ws.length ∧ ws.length ≤ 7 ∧ 0 ≤ w ∧ w ≤ 16 ∧ ((ws.length + 1 : Nat) : Int) + hdsN f w (R.drop 6).length ≤ 8 := by
        unfold hdsN at hcap
        rw [if_neg (by omega), hmi] at hcap
        dsimp only at hcap
        have hsub : ((R.drop 6).length : Int) = (R.length : Int) - 6 ∨ ((R.drop 6).length = 0 ∧ (R.length : Int) - 6 ≤ 0) := by omega
        have hz : ∀ x y : Int, y ≤ 0 → hdsN f x y = 0 := by
          intro x y hy
          cases f with
          | zero => rfl
          | succ f => unfold hdsN; rw [if_pos hy]
        have hnn : ∀ (f : Nat) (x y : Int), 0 ≤ hdsN f x y := by
          intro f
          induction f with
          | zero => intro x y; exact Int.le_refl _
          | succ f ihf =>
            intro x y
            unfold hdsN
            split
            · exact Int.le_refl _
            · dsimp only
              generalize (if y < 6 then y else 6) = z
              split
              · have := ihf (1 + z) (y - 6)
                omega
              · exact ihf _ _
        have heq : ∀ x : Int, hdsN f x (R.drop 6).length = hdsN f x ((R.length : Int) - 6) := by
          intro x
          rcases hsub with q | q
          · rw [q]
          · rw [hz x _ q.2, q.1]
            exact hz x _ (by decide)
        unfold rec1
        rw [lst_app, drop_app]
        by_cases c : 16 < u + 1 + (m : Int)
        · rw [if_pos (by omega)] at hcap
          have hn0 := hnn f (1 + (m : Int)) ((R.length : Int) - 6)
          rw [if_pos c]
          refine ⟨fun _ => by omega, vs ++ [u], 1 + m, rfl, by simp, by simp; omega, by omega, by omega, ?_⟩
          rw [heq]
          simp only [List.length_append, List.length_cons, List.length_nil]
          omega
        · rw [if_neg (by omega)] at hcap
          rw [if_neg c]
          refine ⟨fun q => absurd q c, vs, u + 1 + m, rfl, hv1, hv2, by omega, by omega, ?_⟩
          rw [heq, show u + 1 + (m : Int) = u + (1 + m) by omega]
          exact hcap
      obtain ⟨hcl, ws, w, hrw, hws1, hws2, hw1, hw2, hcapn⟩ := hcap2
      obtain ⟨P2, p1, p2, p3, p4⟩ := m_record hA (by omega) (by omega) (n := (m : Int)) (by omega) hcl hv2
      have hme2 : ∀ e, me P2 e = me P e := fun e => by
        unfold me
        rw [p4 34 _ (by simp) (by decide), p4 31 _ (by simp) (by decide), p4 32 _ (by simp) (by decide), p4 35 _ (by simp) (by decide), p4 33 _ (by simp) (by decide), p4 38 _ (by simp) (by decide), p4 39 _ (by simp) (by decide)]
      have hil2 : ∀ e, isl P2 tl e = isl P tl e := fun e => by
        unfold isl
        rw [p4 36 _ (by simp) (by decide), p4 34 _ (by simp) (by decide), p4 38 _ (by simp) (by decide)]
      rw [hm]
      have hof : Int.ofNat m = (m : Int) := rfl
      rw [hof]
      rw [hrw] at p3 ⊢
      have hra : 0 ≤ (rec1 (vs ++ [u]) (m : Int)).2 ∧ (rec1 (vs ++ [u]) (m : Int)).2 ≤ 100 := by
        unfold rec1
        rw [lst_app]
        split
        · simp
        · simp only; omega
      have a6 := (mA_iff.mp p3).2.2.2.2.2.2.2.1
      obtain ⟨u7, -⟩ := a6.last
      have hgl : tl + Int.ofNat (ws ++ [w]).length - 1 = tl + ws.length := by
        simp only [List.length_append, List.length_cons, List.length_nil]
        show tl + ((ws.length + (0 + 1) : Nat) : Int) - 1 = _
        omega
      obtain ⟨Q, q1, q2, q3, q4, q5, q6⟩ := ml_coll (N := N) (tl := tl) (by unfold rg; omega) (g := tl + ws.length) (m := m) (at0 := (rec1 (vs ++ [u]) (m : Int)).2) (by omega) (by unfold rg; omega) (by omega) hra hN2 K m zfu 0 R P2 (by omega) (by unfold zfu; omega) hml p3.1 p3.2.1 (by rw [p4 30 1 (by decide) (by decide)]; exact hN) a6.1 u7 (fun e he => by rw [p4 34 e (by simp) (by decide)]; exact hD e he) (fun e f he hf => by rw [p4 36 e (by simp) (by decide), p4 36 f (by simp) (by decide), p4 32 e (by simp) (by decide), p4 32 f (by simp) (by decide)]; exact hU e f he hf) hs (hR.trans (List.Perm.of_eq (ent_cg (fun e _ => (hil2 e).symm) (fun e _ _ => (hme2 e).symm))))
      have hmt : R.take m = R.take 6 := by
        by_cases c6 : 6 ≤ R.length
        · have : m = 6 := by omega
          rw [this]
        · rw [List.take_of_length_le (by omega), List.take_of_length_le (by omega)]
      have hmd : R.drop m = R.drop 6 := by
        by_cases c6 : 6 ≤ R.length
        · have : m = 6 := by omega
          rw [this]
        · rw [List.drop_eq_nil_of_le (by omega), List.drop_eq_nil_of_le (by omega)]
      rw [hmd] at q6
      have hAQ : mA time sn bt seen pr tl (ws ++ [w]) un Q := by
        obtain ⟨t, tG, c1, c2, c3, c4, c5, c6, c7⟩ := mA_iff.mp p3
        exact mA_iff.mpr ⟨q2.mSh t, q3, (q4 30 0 (by decide) (by decide)).trans c1, (q4 30 4 (by decide) (by decide)).trans c2, (q4 30 9 (by decide) (by decide)).trans c3, c4.cg (q4 30 5 (by decide) (by decide)) (fun j => q4 42 j (by decide) (by decide)) (fun j => q4 43 j (by decide) (by decide)) (fun j => q4 44 j (by decide) (by decide)), c5.cg (fun j => q4 45 j (by decide) (by decide)) (fun j => q4 46 j (by decide) (by decide)), c6.cg (q4 30 6 (by decide) (by decide)) (q4 30 7 (by decide) (by decide)) (fun j => q4 47 j (by decide) (by decide)), c7.cg (q4 30 8 (by decide) (by decide)) (fun j => q4 48 j (by decide) (by decide)) (fun j => q4 49 j (by decide) (by decide)) (fun j => q4 50 j (by decide) (by decide))⟩
      have hqp : ∀ q j, q ≠ 38 → q ≠ 39 → ¬ (q = 30 ∧ j = 7) → q ≠ 47 → iF Q q j = iF P q j := fun q j h1 h2 h3 h4 => (q4 q j h1 h2).trans (p4 q j h3 h4)
      obtain ⟨Q2, s1, s2, s3, s4, s5, s6, s7⟩ := ih n (R.drop 6) ws w Q (by omega) (by omega) (by omega) hws1 hws2 hw1 hw2 hcapn hAQ (by rw [hqp 30 1 (by decide) (by decide) (by decide) (by decide)]; exact hN) (fun e he => by rw [hqp 34 e (by decide) (by decide) (by simp) (by decide)]; exact hD e he) (fun e f he hf => by rw [hqp 36 e (by decide) (by decide) (by simp) (by decide), hqp 36 f (by decide) (by decide) (by simp) (by decide), hqp 32 e (by decide) (by decide) (by simp) (by decide), hqp 32 f (by decide) (by decide) (by simp) (by decide)]; exact hU e f he hf) (List.Pairwise.sublist (List.drop_sublist 6 R) hs) q6
      refine ⟨Q2, ?_, (p2.tr q2).tr s2, s3, fun q j h1 h2 h3 h4 => (s4 q j h1 h2 h3 h4).trans (hqp q j h1 h2 h3 h4), fun e he h9 => ?_, s6, s7⟩
      · rw [zb2_of p1]
        refine q1.trans ?_
        rw [hK, e3]
        rcases Nat.lt_or_ge R.length 6 with c6 | c6
        · -- nothing is left: any number that isn't positive will do
          have hnil : R.drop 6 = [] := List.drop_eq_nil_of_le (by omega)
          rw [hnil] at s1
          refine Eq.trans ?_ s1
          obtain ⟨n, rfl⟩ : ∃ k, n = k + 1 := ⟨n - 1, by omega⟩
          unfold f_Md_collect_L54
          have z1 : zle ((R.length : Int) - 6) 0 := (zle_iff (by unfold rg; omega) rg0).mpr (by omega)
          have z2 : zle ((([] : List En).length : Nat) : Int) 0 := by decide
          simp only [z1, z2, if_true]
        · rw [show (R.length : Int) - 6 = ((R.drop 6).length : Int) by omega]
          exact s1
      · rw [s5 e he (by rw [hqp 36 e (by decide) (by decide) (by simp) (by decide)]; exact h9), q5 e he (by rw [p4 36 e (by simp) (by decide)]; exact h9), hme2, hmt, hgl]
        have h0 : (rec1 (vs ++ [u]) (m : Int)).2 + ((0 : Nat) : Int) = (rec1 (vs ++ [u]) (m : Int)).2 := by simp
        rw [h0]
        exact rel_app (fun q hq => by rw [plc_seg (a := 0) q hq]; omega) (me P e)
    have hie2 : ¬ R.isEmpty = true := by rw [hie]; decide
    simp only [hie2, if_false]
    by_cases c6 : 6 ≤ R.length
    · have e2' : zle 6 (R.length : Int) := e2.mpr (by omega)
      simp only [e1, e2', if_true, if_false]
      exact key 6 (by rw [List.length_take]; omega) (by decide) (by decide) (by rw [if_neg (by omega)]; rfl) _ (fun A => rfl)
    · have e2' : ¬ zle 6 (R.length : Int) := fun q => c6 (by have := e2.mp q; omega)
      simp only [e1, e2', if_false]
      exact key R.length (by rw [List.length_take]; omega) hl1 (by omega) (by rw [if_pos (by omega)]) _ (fun A => rfl)
end MD19
