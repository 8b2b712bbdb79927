-- THE MODEL AND THE STATE: numbers, batch, snapshots, log
def mA (time sn : Int) (bt : List Bt) (seen : List Int) (pr tl : Int) (us : List Int) (un : List Un) (M : zHp) : Prop :=
  mSh M ∧ RG M ∧ iF M 30 0 = time ∧ iF M 30 4 = sn ∧ iF M 30 9 = pr ∧ iF M 30 5 = (bt.length : Int) ∧ (∀ k b, bt[k]? = some b → b = (iF M 42 k, iF M 43 k, iF M 44 k)) ∧ sn3 M = seen ∧ (∀ s, s < 3 → (iF M 45 s = 0 ∨ iF M 45 s = 1) ∧ (iF M 45 s = 1 → 0 ≤ iF M 46 s)) ∧
  iF M 30 6 = tl ∧ iF M 30 7 = tl + us.length - 1 ∧ (∀ (k : Nat) u, us[k]? = some u → iF M 47 ((tl + k) % 8).toNat = u) ∧ iF M 30 8 = (un.length : Int) ∧ ∀ k u, un[k]? = some u → u = (iF M 48 k, iF M 49 k, iF M 50 k)
theorem mA.cg {time sn : Int} {bt : List Bt} {seen : List Int} {pr tl : Int} {us : List Int} {un : List Un} {M P : zHp} (h : mA time sn bt seen pr tl us un M) (hf : mFr M P) (hG : RG P) (hk : ∀ q k, 42 ≤ q → q ≤ 50 → iF P q k = iF M q k) (h30 : ∀ k, k ≠ 1 → k ≠ 2 → k ≠ 3 → iF P 30 k = iF M 30 k) : mA time sn bt seen pr tl us un P := by
  obtain ⟨a1, a2, a3, a4, a5, a6, a7, a8, a9, a10, a11, a12, a13, a14⟩ := h
  refine ⟨hf.mSh a1, hG, ?_, ?_, ?_, ?_, ?_, ?_, ?_, ?_, ?_, ?_, ?_, ?_⟩
  · rw [h30 0 (by decide) (by decide) (by decide)]; exact a3
  · rw [h30 4 (by decide) (by decide) (by decide)]; exact a4
  · rw [h30 9 (by decide) (by decide) (by decide)]; exact a5
  · rw [h30 5 (by decide) (by decide) (by decide)]; exact a6
  · intro k b hb
    rw [hk 42 k (by decide) (by decide), hk 43 k (by decide) (by decide), hk 44 k (by decide) (by decide)]
    exact a7 k b hb
  · rw [← a8]
    unfold sn3 sv
    rw [hk 45 0 (by decide) (by decide), hk 45 1 (by decide) (by decide), hk 45 2 (by decide) (by decide), hk 46 0 (by decide) (by decide), hk 46 1 (by decide) (by decide), hk 46 2 (by decide) (by decide)]
  · intro s hs
    rw [hk 45 s (by decide) (by decide), hk 46 s (by decide) (by decide)]
    exact a9 s hs
  · rw [h30 6 (by decide) (by decide) (by decide)]; exact a10
  · rw [h30 7 (by decide) (by decide) (by decide)]; exact a11
  · intro k u hu
    rw [hk 47 _ (by decide) (by decide)]
    exact a12 k u hu
  · rw [h30 8 (by decide) (by decide) (by decide)]; exact a13
  · intro k u hu
    rw [hk 48 k (by decide) (by decide), hk 49 k (by decide) (by decide), hk 50 k (by decide) (by decide)]
    exact a14 k u hu
-- its entries
def eW (M : zHp) (N : Nat) (sn : Int) : Prop := ∀ e, e < N → (iF M 34 e = 0 ∨ iF M 34 e = 1) ∧ 0 ≤ iF M 35 e ∧ 1 ≤ iF M 32 e ∧ 0 ≤ iF M 31 e ∧ iF M 31 e < 32 ∧ (iF M 36 e = 9 ∨ (iF M 32 e ≤ sn ∧ (iF M 36 e = -1 ∨ iF M 36 e = 0 ∨ iF M 36 e = 1 ∨ iF M 36 e = 2)))
def eU (M : zHp) (N : Nat) : Prop := ∀ e f, e < N → f < N → iF M 36 e ≠ 9 → iF M 36 f ≠ 9 → iF M 32 e = iF M 32 f → e = f
def lvE (M : zHp) (N : Nat) (l : Int) : List En := ent M N (fun e => iF M 36 e == l)
def tb0 (M : zHp) (N : Nat) (k : Int) : List En := ent M N (fun e => iF M 36 e == 0 && iF M 30 2 - iF M 37 e == k)
def mB (N : Nat) (sn : Int) (mem : List En) (l0 : List (List En)) (l1 l2 : List En) (M : zHp) : Prop :=
  iF M 30 1 = (N : Int) ∧ N ≤ 520 ∧ 0 ≤ sn ∧ sn ≤ N ∧ eW M N sn ∧ eU M N ∧ mem.Perm (lvE M N (-1)) ∧ l1.Perm (lvE M N 1) ∧ l2.Perm (lvE M N 2) ∧ iF M 30 3 = (l0.length : Int) ∧ (∀ (k : Nat) t, l0[k]? = some t → t.Perm (tb0 M N k)) ∧
  (∀ e, e < N → iF M 36 e = 0 → 0 ≤ iF M 30 2 - iF M 37 e ∧ iF M 30 2 - iF M 37 e < l0.length) ∧ (∀ e, e < N → iF M 36 e = 1 ∨ iF M 36 e = 2 → iF M 37 e = rnk M N e) ∧ 0 ≤ iF M 30 2 ∧ iF M 30 2 + mem.length ≤ N
/-- a list is its parts by a number -/
theorem perm_fib {α : Type} (g : α → Int) : ∀ (n : Nat) (l : List α), (∀ x ∈ l, 0 ≤ g x ∧ g x < n) → l.Perm ((List.range n).flatMap (fun (k : Nat) => l.filter (fun x => g x == (k : Int))))
  | 0, l, h => by
    cases l with
    | nil => exact List.Perm.refl _
    | cons a l => have := h a List.mem_cons_self; omega
  | n + 1, l, h => by
    have h1 : l.Perm (l.filter (fun x => decide (g x < (n : Int))) ++ l.filter (fun x => g x == (n : Int))) := by
      have := filter_or_perm (fun x => decide (g x < (n : Int))) (fun x => g x == (n : Int)) l (fun x hx q => by
        have q1 : g x < (n : Int) := by simpa using q.1
        have q2 : g x = (n : Int) := by simpa using q.2
        omega)
      rw [List.filter_eq_self.mpr] at this
      · exact this
      · intro x hx
        have := h x hx
        simp
        omega
    have h2 := perm_fib g n (l.filter (fun x => decide (g x < (n : Int)))) (fun x hx => by
      obtain ⟨q1, q2⟩ := List.mem_filter.mp hx
      have := h x q1
      simp at q2
      omega)
    rw [List.range_succ, List.flatMap_append]
    refine h1.trans ((h2.append_right _).trans ?_)
    have e1 : (List.range n).flatMap (fun (k : Nat) => (l.filter (fun x => decide (g x < (n : Int)))).filter (fun x => g x == (k : Int))) = (List.range n).flatMap (fun (k : Nat) => l.filter (fun x => g x == (k : Int))) := by
      rw [List.flatMap_def, List.flatMap_def]
      congr 1
      apply List.map_congr_left
      intro k hk
      have hk' := List.mem_range.mp hk
      rw [List.filter_filter]
      apply List.filter_congr
      intro x _
      by_cases c : g x = (k : Int)
      · simp [c, hk']
      · simp [c]
    rw [e1]
    simp
theorem flat_perm : ∀ (l : List (List En)) (f : Nat → List En) (j : Nat), (∀ (k : Nat) t, l[k]? = some t → t.Perm (f (j + k))) → l.flatten.Perm ((List.range l.length).flatMap (fun k => f (j + k)))
  | [], f, j, h => List.Perm.refl _
  | t :: l, f, j, h => by
    have h1 := h 0 t rfl
    have h2 := flat_perm l f (j + 1) (fun k u hu => by have := h (k + 1) u hu; rw [show j + (k + 1) = j + 1 + k by omega] at this; exact this)
    rw [List.flatten_cons, List.length_cons, List.range_succ_eq_map, List.flatMap_cons, List.flatMap_map]
    refine (h1.append h2).trans ?_
    have e : (fun k => f (j + (k + 1))) = (fun k => f (j + 1 + k)) := by funext k; rw [show j + (k + 1) = j + 1 + k by omega]
    show (f (j + 0) ++ _).Perm (f (j + 0) ++ (List.range l.length).flatMap (fun k => f (j + (k + 1))))
    rw [e]
theorem mB.l0 {N : Nat} {sn : Int} {mem : List En} {l0 : List (List En)} {l1 l2 : List En} {M : zHp} (h : mB N sn mem l0 l1 l2 M) : l0.flatten.Perm (lvE M N 0) := by
  obtain ⟨b1, b2, b3, b4, b5, b6, b7, b8, b9, b10, b11, b12, b13, b14, b15⟩ := h
  have h1 := flat_perm l0 (fun k => tb0 M N k) 0 (fun k t ht => by rw [Nat.zero_add]; exact b11 k t ht)
  refine h1.trans ?_
  have h2 := perm_fib (fun e => iF M 30 2 - iF M 37 e) l0.length ((List.range N).filter (fun e => iF M 36 e == 0)) (fun x hx => by
    obtain ⟨q1, q2⟩ := List.mem_filter.mp hx
    exact b12 x (List.mem_range.mp q1) (by simpa using q2))
  have h3 := (h2.map (me M)).symm
  rw [List.map_flatMap] at h3
  unfold lvE ent
  refine List.Perm.trans (List.Perm.of_eq ?_) h3
  simp only [Nat.zero_add]
  rw [List.flatMap_def, List.flatMap_def]
  congr 1
  apply List.map_congr_left
  intro k _
  unfold tb0 ent
  rw [List.filter_filter]
  congr 1
  apply List.filter_congr
  intro x _
  rw [Bool.and_comm]
theorem cnt_and {p k : Nat → Bool} {N : Nat} : (cnt (fun e => p e && !k e) N : Int) = (cnt p N : Int) - (cnt (fun e => p e && k e) N : Int) := by
  induction N with
  | zero => rfl
  | succ N ih =>
    rw [cnt_s, cnt_s, cnt_s]
    cases h1 : p N <;> cases h2 : k N <;> simp <;> omega
section MD7
variable {M : zHp} {N : Nat}
/-- choose and sift -/
theorem m_chsift {sn : Int} (h : mSh M) (hG : RG M) (hN : iF M 30 1 = (N : Int)) (hN2 : N ≤ 520) (hW : eW M N sn) (hT : iF M 30 4 = sn) (hT0 : 0 ≤ sn) (hT2 : sn ≤ N) {a b l : Int} (ha : rg a) (hb : rg b) (hl : rg l) (ha9 : a ≠ 9) (hb9 : b ≠ 9) :
    ∃ P Q n, f_Md_choose 30 a b M = some P ∧ f_Md_sift 30 l P = some (n, Q) ∧ mFr M Q ∧ RG Q ∧ (∀ q k, q ≠ 36 → q ≠ 40 → q ≠ 41 → iF Q q k = iF M q k) ∧
      (∀ e, e < N → iF Q 40 e = if iF M 36 e = a ∨ iF M 36 e = b then 1 else 0) ∧
      (∀ e, e < N → iF Q 36 e = if iF M 36 e = a ∨ iF M 36 e = b then (if kp (decide (l = 2)) (iF M 30 0) (sn3 M) (ent M N (fun e => iF M 36 e == a || iF M 36 e == b)) (me M e) = true then l else 9) else iF M 36 e) ∧
      n = ((ent M N (fun e => iF M 36 e == a || iF M 36 e == b)).length : Int) - ((sift (decide (l = 2)) (iF M 30 0) (sn3 M) (ent M N (fun e => iF M 36 e == a || iF M 36 e == b))).length : Int) := by
  obtain ⟨P, hP, hU⟩ := m_choose h hG hN hN2 ha hb
  have hU0 : ∀ q k, q ≠ 40 → iF P q k = iF M q k := fun q k hq => hU.at hq
  have hme : ∀ e, me P e = me M e := me_cg2 (by decide) hU0
  have h40 : ∀ e, e < N → (iF P 40 e ≠ 0 ↔ (iF M 36 e = a ∨ iF M 36 e = b)) := by
    intro e he
    rw [hU.2.2.2 e, if_pos he]
    dsimp only
    by_cases c : iF M 36 e = a ∨ iF M 36 e = b
    · rw [if_pos c]; simp [c]
    · rw [if_neg c]; simp [c]
  obtain ⟨n, Q, hQ, hR⟩ := m_sift (hU.1.mSh h) hU.2.1 ((hU.at (by decide)).trans hN) hN2 (fun e he => by rw [hU.at (by decide)]; exact (hW e he).2.2.1) (fun e he => by rw [hU.at (by decide)]; exact (hW e he).1) (fun e he => by rw [hU.at (by decide)]; exact (hW e he).2.1) (T := sn.toNat) (by rw [hU.at (by decide), hT]; omega) (by omega) (fun e he hc => by
    rw [hU.at (by decide)]
    rcases (hW e he).2.2.2.2.2 with q | q
    · rcases (h40 e he).mp hc with r | r <;> omega
    · omega) hl
  obtain ⟨r1, r2, r3, r4, r5⟩ := hR
  have hsn : sn3 P = sn3 M := by
    unfold sn3 sv
    simp only [hU0 45 _ (by decide), hU0 46 _ (by decide)]
  have hch : chs P N = ent M N (fun e => iF M 36 e == a || iF M 36 e == b) := by
    refine ent_cg (fun e he => ?_) (fun e _ _ => hme e)
    have := h40 e he
    by_cases c : iF P 40 e = 0
    · have hn : ¬ (iF M 36 e = a ∨ iF M 36 e = b) := fun q => this.mpr q c
      have e1 : (iF P 40 e == 0) = true := by simp [c]
      have e2 : (iF M 36 e == a || iF M 36 e == b) = false := by simpa [not_or] using hn
      rw [e1, e2]; rfl
    · have hn := this.mp c
      have e1 : (iF P 40 e == 0) = false := by simpa using c
      have e2 : (iF M 36 e == a || iF M 36 e == b) = true := by simpa using hn
      rw [e1, e2]; rfl
  rw [hch, hsn, hU0 30 0 (by decide)] at r4 r5
  refine ⟨P, Q, n, hP, hQ, hU.1.tr r1, r2, fun q k q1 q2 q3 => (r3 q k q1 q3).trans (hU0 q k q2), fun e he => ?_, fun e he => ?_, ?_⟩
  · rw [r3 40 e (by decide) (by decide), hU.2.2.2 e, if_pos he]
  · rw [r4 e, hme, hU0 36 e (by decide)]
    by_cases c : iF M 36 e = a ∨ iF M 36 e = b
    · rw [if_pos ⟨he, (h40 e he).mpr c⟩, if_pos c]
    · rw [if_neg (fun q => c ((h40 e he).mp q.2)), if_neg c]
  · rw [r5]
    unfold sift
    rw [ent_filter, ent_len, ent_len]
    have e1 := cnt_and (p := fun e => iF M 36 e == a || iF M 36 e == b) (k := fun e => kp (decide (l = 2)) (iF M 30 0) (sn3 M) (ent M N (fun e => iF M 36 e == a || iF M 36 e == b)) (me M e)) (N := N)
    refine Eq.trans ?_ e1
    congr 1
    apply cnt_cg
    intro e he
    rw [hme]
    have := h40 e he
    by_cases c : iF P 40 e = 0
    · have hn : ¬ (iF M 36 e = a ∨ iF M 36 e = b) := fun q => this.mpr q c
      have e1 : (iF P 40 e == 0) = true := by simp [c]
      have e2 : (iF M 36 e == a || iF M 36 e == b) = false := by simpa [not_or] using hn
      rw [e1, e2]; rfl
    · have hn := this.mp c
      have e1 : (iF P 40 e == 0) = false := by simpa using c
      have e2 : (iF M 36 e == a || iF M 36 e == b) = true := by simpa using hn
      rw [e1, e2]; rfl
end MD7
