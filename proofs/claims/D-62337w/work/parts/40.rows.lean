-- rows in order: places, cuts by six, what is found
theorem bef_irr (a : En) : ¬ bef a a := by unfold bef; omega
theorem bef_tr {a b c : En} (h1 : bef a b) (h2 : bef b c) : bef a c := by unfold bef at *; omega
theorem bef_as {a b : En} (h1 : bef a b) : ¬ bef b a := by unfold bef at *; omega
theorem bef_or {a b : En} (h : eK a ≠ eK b ∨ eS a ≠ eS b) : bef a b ∨ bef b a := by unfold bef; omega
theorem befB_f {a b : En} (h : ¬ bef a b) : befB a b = false := by
  cases e : befB a b with
  | false => rfl
  | true => exact absurd ((befB_iff a b).mp e) h
def rk (l : List En) (x : En) : Nat := l.countP (fun y => befB y x)
theorem rk_mid {A B : List En} {x : En} (h : srd (A ++ x :: B)) : rk (A ++ x :: B) x = A.length := by
  unfold rk srd at *
  rw [List.pairwise_append] at h
  obtain ⟨-, h2, h3⟩ := h
  rw [List.pairwise_cons] at h2
  rw [List.countP_append, List.countP_cons, befB_f (bef_irr x)]
  have e1 : A.countP (fun y => befB y x) = A.length := List.countP_eq_length.mpr (fun y hy => (befB_iff y x).mpr (h3 y hy x List.mem_cons_self))
  have e2 : B.countP (fun y => befB y x) = 0 := List.countP_eq_zero.mpr (fun y hy => by rw [befB_f (bef_as (h2.1 y hy))]; decide)
  rw [e1, e2]
  simp
theorem rk_at {l : List En} (h : srd l) {i : Nat} {x : En} (hx : l[i]? = some x) : rk l x = i := by
  obtain ⟨hi, rfl⟩ := List.getElem?_eq_some_iff.mp hx
  have e : l = l.take i ++ l[i] :: l.drop (i + 1) := by rw [← List.drop_eq_getElem_cons hi, List.take_append_drop]
  have hl : (l.take i).length = i := by rw [List.length_take]; omega
  have := rk_mid (A := l.take i) (B := l.drop (i + 1)) (x := l[i]) (by rw [← e]; exact h)
  rw [← e, hl] at this
  exact this
def tkd (l : List En) (k : Nat) : List En := (l.drop (6 * k)).take 6
theorem fil_tkd {l : List En} (h : srd l) (k : Nat) : tkd l k = l.filter (fun x => rk l x / 6 == k) := by
  have e : l = l.take (6 * k) ++ ((l.drop (6 * k)).take 6 ++ (l.drop (6 * k)).drop 6) := by rw [List.take_append_drop, List.take_append_drop]
  have e1 : (l.take (6 * k)).filter (fun x => rk l x / 6 == k) = [] := List.filter_eq_nil_iff.mpr (fun x hx => by
    obtain ⟨i, hi⟩ := List.mem_iff_getElem?.mp hx
    rw [List.getElem?_take] at hi
    by_cases c : i < 6 * k
    · rw [if_pos c] at hi
      rw [rk_at h hi]
      simp only [beq_iff_eq]
      omega
    · rw [if_neg c] at hi; cases hi)
  have e2 : ((l.drop (6 * k)).take 6).filter (fun x => rk l x / 6 == k) = (l.drop (6 * k)).take 6 := List.filter_eq_self.mpr (fun x hx => by
    obtain ⟨i, hi⟩ := List.mem_iff_getElem?.mp hx
    rw [List.getElem?_take] at hi
    by_cases c : i < 6
    · rw [if_pos c, List.getElem?_drop] at hi
      rw [rk_at h hi]
      simp only [beq_iff_eq]
      omega
    · rw [if_neg c] at hi; cases hi)
  have e3 : ((l.drop (6 * k)).drop 6).filter (fun x => rk l x / 6 == k) = [] := List.filter_eq_nil_iff.mpr (fun x hx => by
    obtain ⟨i, hi⟩ := List.mem_iff_getElem?.mp hx
    rw [List.getElem?_drop, List.getElem?_drop] at hi
    rw [rk_at h hi]
    simp only [beq_iff_eq]
    omega)
  have e4 : l.filter (fun x => rk l x / 6 == k) = (l.take (6 * k) ++ ((l.drop (6 * k)).take 6 ++ (l.drop (6 * k)).drop 6)).filter (fun x => rk l x / 6 == k) := congrArg (fun q => List.filter (fun x => rk l x / 6 == k) q) e
  rw [e4, List.filter_append, List.filter_append, e1, e2, e3]
  simp [tkd]
theorem chkN_get : ∀ (n : Nat) (l : List En) (k : Nat), l.length ≤ n → (chkN n l)[k]? = if 6 * k < l.length then some (tkd l k) else none
  | 0, l, k, h => by
    rw [if_neg (by omega)]; rfl
  | n + 1, l, k, h => by
    unfold chkN
    cases l with
    | nil => rfl
    | cons a l =>
      rw [if_neg (by simp)]
      cases k with
      | zero => rw [if_pos (by simp)]; rfl
      | succ k =>
        have := chkN_get n ((a :: l).drop 6) k (by rw [List.length_drop]; simp only [List.length_cons] at h ⊢; omega)
        rw [List.getElem?_cons_succ, this, List.length_drop]
        unfold tkd
        rw [List.drop_drop]
        by_cases c : 6 * (k + 1) < (a :: l).length
        · rw [if_pos (by omega), if_pos c]
          rw [show 6 + 6 * k = 6 * (k + 1) by omega]
        · rw [if_neg (by omega), if_neg c]
theorem chk_get (l : List En) (k : Nat) : (chk l)[k]? = if 6 * k < l.length then some (tkd l k) else none := chkN_get _ l k (Nat.le_refl _)
theorem chkN_len : ∀ (n : Nat) (l : List En), l.length ≤ n → (chkN n l).length = (l.length + 5) / 6
  | 0, l, h => by
    have : l.length = 0 := by omega
    rw [this]; rfl
  | n + 1, l, h => by
    unfold chkN
    cases l with
    | nil => rfl
    | cons a l =>
      rw [if_neg (by simp)]
      have := chkN_len n ((a :: l).drop 6) (by rw [List.length_drop]; simp only [List.length_cons] at h ⊢; omega)
      rw [List.length_cons, this, List.length_drop]
      simp only [List.length_cons]
      omega
theorem chk_len (l : List En) : (chk l).length = (l.length + 5) / 6 := chkN_len _ l (Nat.le_refl _)
theorem srd_inj : ∀ {t : List En}, srd t → ∀ {x y : En}, x ∈ t → y ∈ t → eK x = eK y → eS x = eS y → x = y
  | [], _, _, _, hx, _, _, _ => by cases hx
  | a :: t, h, x, y, hx, hy, h1, h2 => by
    unfold srd at h
    rw [List.pairwise_cons] at h
    rcases List.mem_cons.mp hx with rfl | hx2
    · rcases List.mem_cons.mp hy with rfl | hy
      · rfl
      · have := h.1 y hy
        unfold bef at this
        omega
    · rcases List.mem_cons.mp hy with rfl | hy2
      · have := h.1 x hx2
        unfold bef at this
        omega
      · exact srd_inj h.2 hx2 hy2 h1 h2
theorem best_none {t : List En} {k m : Int} : best t k m = none ↔ ∀ y ∈ t, eK y = k → ¬ eS y ≤ m := by
  unfold best
  rw [List.find?_eq_none]
  constructor
  · intro h y hy h1 h2
    exact h y hy (by simp [h1, h2])
  · intro h y hy q
    simp only [Bool.and_eq_true, beq_iff_eq, decide_eq_true_eq] at q
    exact h y hy q.1 q.2
theorem best_some {t : List En} (h : srd t) {k m : Int} {x : En} (hb : best t k m = some x) : x ∈ t ∧ eK x = k ∧ eS x ≤ m ∧ ∀ y ∈ t, eK y = k → eS y ≤ m → eS y ≤ eS x := by
  unfold best at hb
  obtain ⟨h1, A, B, rfl, h2⟩ := List.find?_eq_some_iff_append.mp hb
  simp only [Bool.and_eq_true, beq_iff_eq, decide_eq_true_eq] at h1
  refine ⟨by simp, h1.1, h1.2, fun y hy hk hm => ?_⟩
  rcases List.mem_append.mp hy with hy | hy
  · have := h2 y hy
    simp [hk, hm] at this
  · rcases List.mem_cons.mp hy with rfl | hy
    · omega
    · unfold srd at h
      rw [List.pairwise_append, List.pairwise_cons] at h
      have := h.2.1.1 y hy
      unfold bef at this
      omega
theorem best_of {t : List En} (h : srd t) {k m : Int} {x : En} (h1 : x ∈ t) (h2 : eK x = k) (h3 : eS x ≤ m) (h4 : ∀ y ∈ t, eK y = k → eS y ≤ m → eS y ≤ eS x) : best t k m = some x := by
  cases e : best t k m with
  | none => exact absurd h3 (best_none.mp e x h1 h2)
  | some y =>
    obtain ⟨g1, g2, g3, g4⟩ := best_some h e
    have a1 := h4 y g1 g2 g3
    have a2 := g4 x h1 h2 h3
    rw [srd_inj h g1 h1 (g2.trans h2.symm) (by omega)]
/-- no two of a key and serial -/
def dis (l : List En) : Prop := l.Pairwise (fun a b => eK a ≠ eK b ∨ eS a ≠ eS b)
theorem ins_srd : ∀ {l : List En} {a : En}, srd l → (∀ b ∈ l, eK a ≠ eK b ∨ eS a ≠ eS b) → srd (ins a l)
  | [], a, _, _ => by simp [ins, srd]
  | b :: l, a, h, hd => by
    unfold srd at h ⊢
    rw [List.pairwise_cons] at h
    unfold ins
    by_cases c : befB a b = true
    · rw [if_pos c]
      have c := (befB_iff a b).mp c
      rw [List.pairwise_cons, List.pairwise_cons]
      refine ⟨fun x hx => ?_, h⟩
      rcases List.mem_cons.mp hx with rfl | hx
      · exact c
      · exact bef_tr c (h.1 x hx)
    · rw [if_neg c]
      have c2 : bef b a := by
        rcases bef_or (hd b List.mem_cons_self) with q | q
        · exact absurd ((befB_iff a b).mpr q) c
        · exact q
      rw [List.pairwise_cons]
      refine ⟨fun x hx => ?_, ins_srd h.2 (fun y hy => hd y (List.mem_cons_of_mem _ hy))⟩
      rcases List.mem_cons.mp ((ins_perm a l).mem_iff.mp hx) with rfl | hx
      · exact c2
      · exact h.1 x hx
theorem srt_srd : ∀ {l : List En}, dis l → srd (srt l)
  | [], _ => by simp [srt, srd]
  | a :: l, h => by
    unfold dis at h
    rw [List.pairwise_cons] at h
    exact ins_srd (srt_srd h.2) (fun b hb => h.1 b ((srt_perm l).mem_iff.mp hb))
theorem srd_dis {l : List En} (h : srd l) : dis l := by
  unfold dis
  unfold srd at h
  exact h.imp (fun {a b} q => by unfold bef at q; omega)
theorem dis_perm {l m : List En} (h : l.Perm m) : dis l ↔ dis m := by
  unfold dis
  exact h.pairwise_iff (fun {a b} q => by omega)
/-- two rows in order with the same entries are one -/
theorem srd_eq : ∀ {l m : List En}, srd l → srd m → l.Perm m → l = m
  | [], m, _, _, h => by rw [h.nil_eq]
  | a :: l, [], _, _, h => by have := h.length_eq; simp at this
  | a :: l, b :: m, h1, h2, h => by
    unfold srd at h1 h2
    rw [List.pairwise_cons] at h1 h2
    have e : a = b := by
      have ha := h.mem_iff.mp (List.mem_cons_self (a := a) (l := l))
      have hb := h.mem_iff.mpr (List.mem_cons_self (a := b) (l := m))
      rcases List.mem_cons.mp ha with rfl | ha
      · rfl
      · rcases List.mem_cons.mp hb with rfl | hb
        · rfl
        · exact absurd (h1.1 b hb) (bef_as (h2.1 a ha))
    subst e
    rw [srd_eq h1.2 h2.2 h.cons_inv]
theorem srt_eq {l m : List En} (h : srd m) (hp : l.Perm m) : srt l = m := srd_eq (srt_srd ((dis_perm hp).mpr (srd_dis h))) h ((srt_perm l).trans hp)
-- bounds, filters and the greatest serial
theorem hdK_le {t : List En} (h : srd t) {y : En} (hy : y ∈ t) : hdK t ≤ eK y := by
  cases t with
  | nil => cases hy
  | cons a t =>
    unfold srd at h
    rw [List.pairwise_cons] at h
    show eK a ≤ eK y
    rcases List.mem_cons.mp hy with rfl | hy
    · omega
    · have := h.1 y hy
      unfold bef at this
      omega
theorem hdK_mem {t : List En} (h : t ≠ []) : ∃ y ∈ t, hdK t = eK y := by
  cases t with
  | nil => exact absurd rfl h
  | cons a t => exact ⟨a, List.mem_cons_self, rfl⟩
theorem laK_app (t : List En) (a : En) : laK (t ++ [a]) = eK a := by unfold laK; simp
theorem ne_appE {t : List En} (h : t ≠ []) : ∃ s a, t = s ++ [a] := ⟨t.dropLast, t.getLast h, (List.dropLast_concat_getLast h).symm⟩
theorem laK_ge {t : List En} (h : srd t) {y : En} (hy : y ∈ t) : eK y ≤ laK t := by
  obtain ⟨s, a, rfl⟩ := ne_appE (List.ne_nil_of_mem hy)
  rw [laK_app]
  unfold srd at h
  rw [List.pairwise_append] at h
  rcases List.mem_append.mp hy with hy | hy
  · have := h.2.2 y hy a (by simp)
    unfold bef at this
    omega
  · simp at hy
    rw [hy]
    omega
theorem laK_mem {t : List En} (h : t ≠ []) : ∃ y ∈ t, laK t = eK y := by
  obtain ⟨s, a, rfl⟩ := ne_appE h
  exact ⟨a, by simp, laK_app s a⟩
theorem zor_as (a b c : Int) : zor (zor a b) c = zor a (zor b c) := by
  unfold zor
  rw [Int32.ofInt_toInt, Int32.ofInt_toInt, Int32.or_assoc]
theorem zor_cm (a b : Int) : zor a b = zor b a := by
  unfold zor
  rw [Int32.or_comm]
theorem flt_perm {t s : List En} (h : t.Perm s) : flt t = flt s := by
  unfold flt
  exact h.foldl_eq' (fun x _ y _ z => by rw [zor_as, zor_as, zor_cm (kb (eK x))]) 0
def mxS (t : List En) : Int := t.foldl (fun b e => if b < eS e then eS e else b) 0
theorem mxS_perm {t s : List En} (h : t.Perm s) : mxS t = mxS s := by
  unfold mxS
  exact h.foldl_eq' (fun x _ y _ z => by (repeat' split) <;> omega) 0
