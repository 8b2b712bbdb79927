-- merging and flushing in the model
/-- choose and sift have been: levels behind them -/
def CS (a b l : Int) (M : zHp) (N : Nat) (Q : zHp) : Prop := mFr M Q ∧ RG Q ∧ (∀ q k, q ≠ 36 → q ≠ 40 → q ≠ 41 → iF Q q k = iF M q k) ∧
  (∀ e, e < N → iF Q 40 e = if iF M 36 e = a ∨ iF M 36 e = b then 1 else 0) ∧
  (∀ e, e < N → iF Q 36 e = if iF M 36 e = a ∨ iF M 36 e = b then (if kp (decide (l = 2)) (iF M 30 0) (sn3 M) (ent M N (fun e => iF M 36 e == a || iF M 36 e == b)) (me M e) = true then l else 9) else iF M 36 e)
section MD8
variable {M Q : zHp} {N : Nat} {a b l : Int}
theorem CS.meq (h : CS a b l M N Q) (e : Nat) : me Q e = me M e := by
  unfold me
  rw [h.2.2.1 34 _ (by decide) (by decide) (by decide), h.2.2.1 31 _ (by decide) (by decide) (by decide), h.2.2.1 32 _ (by decide) (by decide) (by decide), h.2.2.1 35 _ (by decide) (by decide) (by decide), h.2.2.1 33 _ (by decide) (by decide) (by decide), h.2.2.1 38 _ (by decide) (by decide) (by decide), h.2.2.1 39 _ (by decide) (by decide) (by decide)]
theorem CS.other (h : CS a b l M N Q) {k : Int} (h1 : k ≠ a) (h2 : k ≠ b) (h3 : k ≠ l) (h4 : k ≠ 9) : lvE Q N k = lvE M N k := by
  unfold lvE
  refine ent_cg (fun e he => ?_) (fun e _ _ => h.meq e)
  rw [h.2.2.2.2 e he]
  by_cases c : iF M 36 e = a ∨ iF M 36 e = b
  · rw [if_pos c]
    have e2 : (iF M 36 e == k) = false := by
      have : iF M 36 e ≠ k := by rcases c with c | c <;> omega
      simpa using this
    rw [e2]
    split
    · have : l ≠ k := fun q => h3 q.symm
      simpa using this
    · have : (9 : Int) ≠ k := fun q => h4 q.symm
      simpa using this
  · rw [if_neg c]
theorem CS.gone (h : CS a b l M N Q) {k : Int} (h1 : k = a ∨ k = b) (h3 : k ≠ l) (h4 : k ≠ 9) : lvE Q N k = [] := by
  unfold lvE ent
  rw [List.map_eq_nil_iff, List.filter_eq_nil_iff]
  intro e he
  rw [h.2.2.2.2 e (List.mem_range.mp he)]
  have n1 : l ≠ k := fun q => h3 q.symm
  have n2 : (9 : Int) ≠ k := fun q => h4 q.symm
  by_cases c : iF M 36 e = a ∨ iF M 36 e = b
  · rw [if_pos c]
    split
    · simpa using n1
    · simpa using n2
  · rw [if_neg c]
    have : iF M 36 e ≠ k := fun q => c (by rw [q]; exact h1)
    simpa using this
theorem CS.new (h : CS a b l M N Q) (h1 : l = a ∨ l = b) (h4 : l ≠ 9) : lvE Q N l = sift (decide (l = 2)) (iF M 30 0) (sn3 M) (ent M N (fun e => iF M 36 e == a || iF M 36 e == b)) := by
  unfold lvE sift
  rw [ent_filter]
  refine ent_cg (fun e he => ?_) (fun e _ _ => h.meq e)
  rw [h.2.2.2.2 e he]
  have n2 : (9 : Int) ≠ l := fun q => h4 q.symm
  by_cases c : iF M 36 e = a ∨ iF M 36 e = b
  · rw [if_pos c]
    have e2 : (iF M 36 e == a || iF M 36 e == b) = true := by simpa using c
    rw [e2, Bool.true_and]
    split
    · rename_i hk; rw [hk]; simp
    · rename_i hk
      have : kp (decide (l = 2)) (iF M 30 0) (sn3 M) (ent M N (fun e => iF M 36 e == a || iF M 36 e == b)) (me M e) = false := by simpa using hk
      rw [this]
      simpa using n2
  · rw [if_neg c]
    have e2 : (iF M 36 e == a || iF M 36 e == b) = false := by simpa [not_or] using c
    rw [e2, Bool.false_and]
    have : iF M 36 e ≠ l := fun q => c (by rw [q]; exact h1)
    simpa using this
theorem CS.eW {sn : Int} (h : CS a b l M N Q) (hl : l = 0 ∨ l = 1 ∨ l = 2) (ha9 : a ≠ 9) (hb9 : b ≠ 9) (hW : eW M N sn) : eW Q N sn := by
  intro e he
  obtain ⟨w1, w2, w3, w4, w5, w6⟩ := hW e he
  rw [h.2.2.1 34 _ (by decide) (by decide) (by decide), h.2.2.1 31 _ (by decide) (by decide) (by decide), h.2.2.1 32 _ (by decide) (by decide) (by decide), h.2.2.1 35 _ (by decide) (by decide) (by decide)]
  refine ⟨w1, w2, w3, w4, w5, ?_⟩
  rw [h.2.2.2.2 e he]
  by_cases c : iF M 36 e = a ∨ iF M 36 e = b
  · rw [if_pos c]
    have hs : iF M 32 e ≤ sn := by
      rcases w6 with q | q
      · rcases c with c | c <;> omega
      · exact q.1
    split
    · exact Or.inr ⟨hs, Or.inr hl⟩
    · exact Or.inl rfl
  · rw [if_neg c]
    exact w6
theorem CS.eU (h : CS a b l M N Q) (ha9 : a ≠ 9) (hb9 : b ≠ 9) (hU : eU M N) : eU Q N := by
  have key : ∀ e, e < N → iF Q 36 e ≠ 9 → iF M 36 e ≠ 9 := by
    intro e he hq
    rw [h.2.2.2.2 e he] at hq
    by_cases c : iF M 36 e = a ∨ iF M 36 e = b
    · rcases c with c | c <;> omega
    · rw [if_neg c] at hq; exact hq
  intro e f he hf h1 h2 h3
  rw [h.2.2.1 32 _ (by decide) (by decide) (by decide), h.2.2.1 32 _ (by decide) (by decide) (by decide)] at h3
  exact hU e f he hf (key e he h1) (key f hf h2) h3
end MD8
/-- mB without the places on levels 1 and 2 -/
def mC (N : Nat) (sn : Int) (mem : List En) (l0 : List (List En)) (l1 l2 : List En) (M : zHp) : Prop :=
  iF M 30 1 = (N : Int) ∧ N ≤ 520 ∧ 0 ≤ sn ∧ sn ≤ N ∧ eW M N sn ∧ eU M N ∧ mem.Perm (lvE M N (-1)) ∧ l1.Perm (lvE M N 1) ∧ l2.Perm (lvE M N 2) ∧ iF M 30 3 = (l0.length : Int) ∧ (∀ (k : Nat) t, l0[k]? = some t → t.Perm (tb0 M N k)) ∧
  (∀ e, e < N → iF M 36 e = 0 → 0 ≤ iF M 30 2 - iF M 37 e ∧ iF M 30 2 - iF M 37 e < l0.length) ∧ 0 ≤ iF M 30 2 ∧ iF M 30 2 + mem.length ≤ N
theorem mB.C {N : Nat} {sn : Int} {mem : List En} {l0 : List (List En)} {l1 l2 : List En} {M : zHp} (h : mB N sn mem l0 l1 l2 M) : mC N sn mem l0 l1 l2 M := by
  obtain ⟨b1, b2, b3, b4, b5, b6, b7, b8, b9, b10, b11, b12, b13, b14, b15⟩ := h
  exact ⟨b1, b2, b3, b4, b5, b6, b7, b8, b9, b10, b11, b12, b14, b15⟩
section MD9
variable {M : zHp} {N : Nat} {time sn : Int} {bt : List Bt} {seen : List Int} {pr tl : Int} {us : List Int} {un : List Un} {mem : List En} {l0 : List (List En)} {l1 l2 : List En}
theorem m_arr (hA : mA time sn bt seen pr tl us un M) (hC : mC N sn mem l0 l1 l2 M) : ∃ P, f_Md_arrange 30 M = some P ∧ mFr M P ∧ mA time sn bt seen pr tl us un P ∧ mB N sn mem l0 l1 l2 P := by
  obtain ⟨b1, b2, b3, b4, b5, b6, b7, b8, b9, b10, b11, b12, b14, b15⟩ := hC
  obtain ⟨P, hP, hU⟩ := m_arrange hA.1 hA.2.1 b1 b2
  have hU0 : ∀ q k, q ≠ 37 → iF P q k = iF M q k := fun q k hq => hU.at hq
  have hme : ∀ e, me P e = me M e := me_cg2 (by decide) hU0
  have hlv : ∀ k, lvE P N k = lvE M N k := fun k => ent_cg (fun e _ => by rw [hU0 36 e (by decide)]) (fun e _ _ => hme e)
  have h37 : ∀ e, e < N → iF M 36 e = 0 → iF P 37 e = iF M 37 e := by
    intro e he h0
    rw [hU.2.2.2 e, if_pos he]
    dsimp only
    rw [if_neg (by omega)]
  refine ⟨P, hP, hU.1, hA.cg hU.1 hU.2.1 (fun q k h1 h2 => hU0 q k (by omega)) (fun k _ _ _ => hU0 30 k (by decide)), ?_, b2, b3, b4, ?_, ?_, ?_, ?_, ?_, ?_, ?_, ?_, ?_, ?_, ?_⟩
  · rw [hU0 30 1 (by decide)]; exact b1
  · intro e he
    rw [hU0 34 e (by decide), hU0 35 e (by decide), hU0 32 e (by decide), hU0 31 e (by decide), hU0 36 e (by decide)]
    exact b5 e he
  · intro e f he hf
    rw [hU0 36 e (by decide), hU0 36 f (by decide), hU0 32 e (by decide), hU0 32 f (by decide)]
    exact b6 e f he hf
  · rw [hlv]; exact b7
  · rw [hlv]; exact b8
  · rw [hlv]; exact b9
  · rw [hU0 30 3 (by decide)]; exact b10
  · intro k t ht
    have : tb0 P N k = tb0 M N k := by
      unfold tb0
      refine ent_cg (fun e he => ?_) (fun e _ _ => hme e)
      rw [hU0 36 e (by decide), hU0 30 2 (by decide)]
      by_cases c : iF M 36 e = 0
      · rw [h37 e he c]
      · have : (iF M 36 e == 0) = false := by simpa using c
        rw [this, Bool.false_and, Bool.false_and]
    rw [this]
    exact b11 k t ht
  · intro e he h0
    rw [hU0 36 e (by decide)] at h0
    rw [hU0 30 2 (by decide), h37 e he h0]
    exact b12 e he h0
  · intro e he h0
    rw [hU0 36 e (by decide)] at h0
    rw [hU.2.2.2 e, if_pos he]
    dsimp only
    rw [if_pos h0]
    congr 1
    unfold rnk
    apply cnt_cg
    intro f _
    rw [hU0 36 e (by decide), hU0 36 f (by decide), hme, hme]
  · rw [hU0 30 2 (by decide)]; exact b14
  · rw [hU0 30 2 (by decide)]; exact b15
theorem mg_sel {a b : Int} {la lb : List En} (hab : a ≠ b) (h1 : la.Perm (lvE M N a)) (h2 : lb.Perm (lvE M N b)) : (la ++ lb).Perm (ent M N (fun e => iF M 36 e == a || iF M 36 e == b)) := by
  refine (h1.append h2).trans ?_
  exact (ent_or (p := fun e => iF M 36 e == a) (q := fun e => iF M 36 e == b) (fun e _ q => by
    have q1 : iF M 36 e = a := by simpa using q.1
    have q2 : iF M 36 e = b := by simpa using q.2
    omega)).symm
theorem sift_len {low : Bool} {L C : List En} (h : L.Perm C) : (sift low time seen L).length = (sift low time seen C).length := (sift_perm h low time seen).length_eq
/-- levels 1 and 2 become level 2 -/
theorem m_next (hA : mA time sn bt seen pr tl us un M) (hC : mC N sn mem l0 l1 l2 M) : ∃ P Q n, f_Md_choose 30 1 2 M = some P ∧ f_Md_sift 30 2 P = some (n, Q) ∧ mFr M Q ∧ mA time sn bt seen pr tl us un Q ∧ mC N sn mem l0 [] (mg1 time seen l1 l2) Q ∧ n = ((l1.length + l2.length : Nat) : Int) - ((mg1 time seen l1 l2).length : Int) := by
  obtain ⟨b1, b2, b3, b4, b5, b6, b7, b8, b9, b10, b11, b12, b14, b15⟩ := hC
  obtain ⟨P, Q, n, hP, hQ, q1, q2, q3, q4, q5, q6⟩ := m_chsift hA.1 hA.2.1 b1 b2 b5 hA.2.2.2.1 b3 b4 (a := 1) (b := 2) (l := 2) rg1 rg2 rg2 (by decide) (by decide)
  have hCS : CS 1 2 2 M N Q := ⟨q1, q2, q3, q4, q5⟩
  have hsel : (l1 ++ l2).Perm (ent M N (fun e => iF M 36 e == 1 || iF M 36 e == 2)) := mg_sel (by decide) b8 b9
  have hsrt := (srt_perm (l1 ++ l2)).trans hsel
  have ht : iF M 30 0 = time := hA.2.2.1
  have hsn : sn3 M = seen := hA.2.2.2.2.2.2.2.1
  have hnew : (mg1 time seen l1 l2).Perm (lvE Q N 2) := by
    rw [hCS.new (Or.inr rfl) (by decide), ht, hsn]
    exact sift_perm hsrt true time seen
  refine ⟨P, Q, n, hP, hQ, q1, hA.cg q1 q2 (fun q k h1 h2 => q3 q k (by omega) (by omega) (by omega)) (fun k _ _ _ => q3 30 k (by decide) (by decide) (by decide)), ⟨?_, b2, b3, b4, hCS.eW (by decide) (by decide) (by decide) b5, hCS.eU (by decide) (by decide) b6, ?_, ?_, hnew, ?_, ?_, ?_, ?_, ?_⟩, ?_⟩
  · rw [q3 30 1 (by decide) (by decide) (by decide)]; exact b1
  · rw [hCS.other (by decide) (by decide) (by decide) (by decide)]; exact b7
  · rw [hCS.gone (Or.inl rfl) (by decide) (by decide)]
  · rw [q3 30 3 (by decide) (by decide) (by decide)]; exact b10
  · intro k t ht2
    have : tb0 Q N k = tb0 M N k := by
      unfold tb0
      refine ent_cg (fun e he => ?_) (fun e _ _ => hCS.meq e)
      rw [q5 e he, q3 30 2 (by decide) (by decide) (by decide), q3 37 e (by decide) (by decide) (by decide)]
      by_cases c : iF M 36 e = 1 ∨ iF M 36 e = 2
      · rw [if_pos c]
        have e1 : (iF M 36 e == 0) = false := by
          have : iF M 36 e ≠ 0 := by omega
          simpa using this
        rw [e1]
        split <;> rfl
      · rw [if_neg c]
    rw [this]
    exact b11 k t ht2
  · intro e he h0
    rw [q5 e he] at h0
    rw [q3 30 2 (by decide) (by decide) (by decide), q3 37 e (by decide) (by decide) (by decide)]
    by_cases c : iF M 36 e = 1 ∨ iF M 36 e = 2
    · rw [if_pos c] at h0
      split at h0 <;> omega
    · rw [if_neg c] at h0
      exact b12 e he h0
  · rw [q3 30 2 (by decide) (by decide) (by decide)]; exact b14
  · rw [q3 30 2 (by decide) (by decide) (by decide)]; exact b15
  · rw [q6, ← hsel.length_eq, List.length_append, ht, hsn]
    congr 2
    exact (sift_len hsrt).symm
/-- levels 0 and 1 become level 1; the number of tables of level 0 is still the old one -/
theorem m_zero (hA : mA time sn bt seen pr tl us un M) (hB : mB N sn mem l0 l1 l2 M) : ∃ P Q n, f_Md_choose 30 0 1 M = some P ∧ f_Md_sift 30 1 P = some (n, Q) ∧ mFr M (wI Q 30 3 0) ∧ mSh Q ∧ mA time sn bt seen pr tl us un (wI Q 30 3 0) ∧ mC N sn mem [] (mg0 time seen l0 l1) l2 (wI Q 30 3 0) ∧ n = ((l0.flatten ++ l1).length : Int) - ((mg0 time seen l0 l1).length : Int) := by
  have hl0 := hB.l0
  obtain ⟨b1, b2, b3, b4, b5, b6, b7, b8, b9, b10, b11, b12, b14, b15⟩ := hB.C
  obtain ⟨P, Q, n, hP, hQ, q1, q2, q3, q4, q5, q6⟩ := m_chsift hA.1 hA.2.1 b1 b2 b5 hA.2.2.2.1 b3 b4 (a := 0) (b := 1) (l := 1) rg0 rg1 rg1 (by decide) (by decide)
  have hCS : CS 0 1 1 M N Q := ⟨q1, q2, q3, q4, q5⟩
  have hsel : (l0.flatten ++ l1).Perm (ent M N (fun e => iF M 36 e == 0 || iF M 36 e == 1)) := mg_sel (by decide) hl0 b8
  have hsrt := (srt_perm (l0.flatten ++ l1)).trans hsel
  have ht : iF M 30 0 = time := hA.2.2.1
  have hsn : sn3 M = seen := hA.2.2.2.2.2.2.2.1
  have hnew : (mg0 time seen l0 l1).Perm (lvE Q N 1) := by
    rw [hCS.new (Or.inr rfl) (by decide), ht, hsn]
    exact sift_perm hsrt false time seen
  have hQs := q1.mSh hA.1
  have hI : ∀ q k, ¬ (q = 30 ∧ k = 3) → iF (wI Q 30 3 0) q k = iF Q q k := fun q k h => by rw [iF_wI, if_neg (fun c => h ⟨c.1, c.2.1⟩)]
  have hf := q1.tr (mFr.wI Q (r := 30) (k := 3) (x := 0) (by decide) (by decide))
  have hme : ∀ e, me (wI Q 30 3 0) e = me Q e := me_cg2 (r := 30) (by decide) (fun q k h => hI q k (fun c => h c.1))
  have hlv : ∀ k, lvE (wI Q 30 3 0) N k = lvE Q N k := fun k => ent_cg (fun e _ => by rw [hI 36 e (by simp)]) (fun e _ _ => hme e)
  have hno0 : ∀ e, e < N → iF Q 36 e ≠ 0 := by
    intro e he h0
    rw [q5 e he] at h0
    by_cases c : iF M 36 e = 0 ∨ iF M 36 e = 1
    · rw [if_pos c] at h0
      split at h0 <;> omega
    · rw [if_neg c] at h0; omega
  refine ⟨P, Q, n, hP, hQ, hf, hQs, hA.cg hf (RG_wI q2 rg0) (fun q k h1 h2 => by rw [hI q k (by omega)]; exact q3 q k (by omega) (by omega) (by omega)) (fun k h1 h2 h3 => by rw [hI 30 k (by omega)]; exact q3 30 k (by decide) (by decide) (by decide)), ⟨?_, b2, b3, b4, ?_, ?_, ?_, ?_, ?_, ?_, ?_, ?_, ?_, ?_⟩, ?_⟩
  · rw [hI 30 1 (by decide), q3 30 1 (by decide) (by decide) (by decide)]; exact b1
  · intro e he
    rw [hI 34 e (by simp), hI 35 e (by simp), hI 32 e (by simp), hI 31 e (by simp), hI 36 e (by simp)]
    exact hCS.eW (by decide) (by decide) (by decide) b5 e he
  · intro e f he hf2
    rw [hI 36 e (by simp), hI 36 f (by simp), hI 32 e (by simp), hI 32 f (by simp)]
    exact hCS.eU (by decide) (by decide) b6 e f he hf2
  · rw [hlv, hCS.other (by decide) (by decide) (by decide) (by decide)]; exact b7
  · rw [hlv]; exact hnew
  · rw [hlv, hCS.other (by decide) (by decide) (by decide) (by decide)]; exact b9
  · rw [iF_wI, ms30 hQs]; rfl
  · intro k t ht2; simp at ht2
  · intro e he h0
    rw [hI 36 e (by simp)] at h0
    exact absurd h0 (hno0 e he)
  · rw [hI 30 2 (by decide), q3 30 2 (by decide) (by decide) (by decide)]; exact b14
  · rw [hI 30 2 (by decide), q3 30 2 (by decide) (by decide) (by decide)]; exact b15
  · rw [q6, ← hsel.length_eq, ht, hsn]
    congr 2
    exact (sift_len hsrt).symm
theorem mC.size {k : Int} (hA : mA time sn bt seen pr tl us un M) (hC : mC N sn mem l0 l1 l2 M) (hk : rg k) : f_Md_size 30 k M = some (((lvE M N k).length : Int), M) := by
  rw [m_size hA.1 hA.2.1 hC.1 hC.2.1 hk]
  unfold lvE
  rw [ent_len]
  congr 3
end MD9
