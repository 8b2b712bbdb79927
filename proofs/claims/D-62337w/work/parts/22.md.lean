/-! THE MODEL's cells: the object at 30, its arrays at 31 .. 50 -/
def msh (r : Nat) : Nat × Nat × Nat := if r = 34 ∨ r = 40 ∨ r = 41 then (21, 520, 0) else if r ≤ 41 then (20, 520, 0) else if r ≤ 44 then (20, 6, 0) else if r = 45 then (21, 3, 0) else if r = 46 then (20, 3, 0) else if r = 47 then (20, 8, 0) else if r = 50 then (21, 16, 0) else (20, 16, 0)
def mSh (M : zHp) : Prop := sh M 30 = (8, 10, 20) ∧ (∀ j, j < 20 → rF M 30 j = 31 + j) ∧ ∀ r, 31 ≤ r → r ≤ 50 → sh M r = msh r
theorem ms30 {M : zHp} (h : mSh M) : sh M 30 = (8, 10, 20) := h.1
theorem ms31 {M : zHp} (h : mSh M) : sh M 31 = (20, 520, 0) := h.2.2 31 (by decide) (by decide)
theorem ms32 {M : zHp} (h : mSh M) : sh M 32 = (20, 520, 0) := h.2.2 32 (by decide) (by decide)
theorem ms33 {M : zHp} (h : mSh M) : sh M 33 = (20, 520, 0) := h.2.2 33 (by decide) (by decide)
theorem ms34 {M : zHp} (h : mSh M) : sh M 34 = (21, 520, 0) := h.2.2 34 (by decide) (by decide)
theorem ms35 {M : zHp} (h : mSh M) : sh M 35 = (20, 520, 0) := h.2.2 35 (by decide) (by decide)
theorem ms36 {M : zHp} (h : mSh M) : sh M 36 = (20, 520, 0) := h.2.2 36 (by decide) (by decide)
theorem ms37 {M : zHp} (h : mSh M) : sh M 37 = (20, 520, 0) := h.2.2 37 (by decide) (by decide)
theorem ms38 {M : zHp} (h : mSh M) : sh M 38 = (20, 520, 0) := h.2.2 38 (by decide) (by decide)
theorem ms39 {M : zHp} (h : mSh M) : sh M 39 = (20, 520, 0) := h.2.2 39 (by decide) (by decide)
theorem ms40 {M : zHp} (h : mSh M) : sh M 40 = (21, 520, 0) := h.2.2 40 (by decide) (by decide)
theorem ms41 {M : zHp} (h : mSh M) : sh M 41 = (21, 520, 0) := h.2.2 41 (by decide) (by decide)
theorem ms42 {M : zHp} (h : mSh M) : sh M 42 = (20, 6, 0) := h.2.2 42 (by decide) (by decide)
theorem ms43 {M : zHp} (h : mSh M) : sh M 43 = (20, 6, 0) := h.2.2 43 (by decide) (by decide)
theorem ms44 {M : zHp} (h : mSh M) : sh M 44 = (20, 6, 0) := h.2.2 44 (by decide) (by decide)
theorem ms45 {M : zHp} (h : mSh M) : sh M 45 = (21, 3, 0) := h.2.2 45 (by decide) (by decide)
theorem ms46 {M : zHp} (h : mSh M) : sh M 46 = (20, 3, 0) := h.2.2 46 (by decide) (by decide)
theorem ms47 {M : zHp} (h : mSh M) : sh M 47 = (20, 8, 0) := h.2.2 47 (by decide) (by decide)
theorem ms48 {M : zHp} (h : mSh M) : sh M 48 = (20, 16, 0) := h.2.2 48 (by decide) (by decide)
theorem ms49 {M : zHp} (h : mSh M) : sh M 49 = (20, 16, 0) := h.2.2 49 (by decide) (by decide)
theorem ms50 {M : zHp} (h : mSh M) : sh M 50 = (21, 16, 0) := h.2.2 50 (by decide) (by decide)
theorem mr0 {M : zHp} (h : mSh M) : rF M 30 0 = 31 := h.2.1 0 (by decide)
theorem mr1 {M : zHp} (h : mSh M) : rF M 30 1 = 32 := h.2.1 1 (by decide)
theorem mr2 {M : zHp} (h : mSh M) : rF M 30 2 = 33 := h.2.1 2 (by decide)
theorem mr3 {M : zHp} (h : mSh M) : rF M 30 3 = 34 := h.2.1 3 (by decide)
theorem mr4 {M : zHp} (h : mSh M) : rF M 30 4 = 35 := h.2.1 4 (by decide)
theorem mr5 {M : zHp} (h : mSh M) : rF M 30 5 = 36 := h.2.1 5 (by decide)
theorem mr6 {M : zHp} (h : mSh M) : rF M 30 6 = 37 := h.2.1 6 (by decide)
theorem mr7 {M : zHp} (h : mSh M) : rF M 30 7 = 38 := h.2.1 7 (by decide)
theorem mr8 {M : zHp} (h : mSh M) : rF M 30 8 = 39 := h.2.1 8 (by decide)
theorem mr9 {M : zHp} (h : mSh M) : rF M 30 9 = 40 := h.2.1 9 (by decide)
theorem mr10 {M : zHp} (h : mSh M) : rF M 30 10 = 41 := h.2.1 10 (by decide)
theorem mr11 {M : zHp} (h : mSh M) : rF M 30 11 = 42 := h.2.1 11 (by decide)
theorem mr12 {M : zHp} (h : mSh M) : rF M 30 12 = 43 := h.2.1 12 (by decide)
theorem mr13 {M : zHp} (h : mSh M) : rF M 30 13 = 44 := h.2.1 13 (by decide)
theorem mr14 {M : zHp} (h : mSh M) : rF M 30 14 = 45 := h.2.1 14 (by decide)
theorem mr15 {M : zHp} (h : mSh M) : rF M 30 15 = 46 := h.2.1 15 (by decide)
theorem mr16 {M : zHp} (h : mSh M) : rF M 30 16 = 47 := h.2.1 16 (by decide)
theorem mr17 {M : zHp} (h : mSh M) : rF M 30 17 = 48 := h.2.1 17 (by decide)
theorem mr18 {M : zHp} (h : mSh M) : rF M 30 18 = 49 := h.2.1 18 (by decide)
theorem mr19 {M : zHp} (h : mSh M) : rF M 30 19 = 50 := h.2.1 19 (by decide)
theorem mSh_wI {M : zHp} {r k : Nat} {x : Int} (h : mSh M) : mSh (wI M r k x) := ⟨by rw [sh_wI]; exact h.1, fun j hj => by rw [rF_wI]; exact h.2.1 j hj, fun q h1 h2 => by rw [sh_wI]; exact h.2.2 q h1 h2⟩
/-- all ints are of 32 bits -/
def RG (M : zHp) : Prop := ∀ r k, rg (iF M r k)
theorem RG_wI {M : zHp} {r k : Nat} {x : Int} (h : RG M) (hx : rg x) : RG (wI M r k x) := by
  intro r' k'
  rw [iF_wI]
  split
  · exact hx
  · exact h r' k'
theorem RG_wR {M : zHp} {r k : Nat} {x : Nat} (h : RG M) : RG (wR M r k x) := by
  intro r' k'
  rw [iF_wR]
  exact h r' k'
theorem rg0 : rg 0 := by unfold rg; omega
theorem rg1 : rg 1 := by unfold rg; omega
theorem rg2 : rg 2 := by unfold rg; omega
theorem rg9 : rg 9 := by unfold rg; omega
theorem rgm1 : rg (-1) := by unfold rg; omega
theorem rgN {i : Nat} (h : i ≤ 100000) : rg (i : Int) := by unfold rg; omega
theorem zaddN {i : Nat} (h : i ≤ 100000) : zadd (i : Int) 1 = ((i + 1 : Nat) : Int) := by rw [zadd_eq (by omega) (by omega)]; rfl
-- reads and writes with what goes on behind them (outermost first, in simp)
theorem gI_b {β : Type} (M : zHp) (ci r k : Nat) (f : Int → Option β) : (gI M ci r k).bind f = if (sh M r).1 = ci ∧ k < (sh M r).2.1 then f (iF M r k) else none := by rw [gI_eq]; split <;> rfl
theorem gR_b {β : Type} (M : zHp) (ci r k : Nat) (f : Nat → Option β) : (gR M ci r k).bind f = if (sh M r).1 = ci ∧ k < (sh M r).2.2 then f (rF M r k) else none := by rw [gR_eq]; split <;> rfl
theorem pI_b {β : Type} (M : zHp) (ci r k : Nat) (x : Int) (f : zHp → Option β) (hci : ci ≠ 99) : (pI M ci r k x).bind f = if (sh M r).1 = ci then f (wI M r k x) else none := by rw [pI_eq _ _ _ _ _ hci]; split <;> rfl
theorem pR_b {β : Type} (M : zHp) (ci r k : Nat) (x : Nat) (f : zHp → Option β) (hci : ci ≠ 99) : (pR M ci r k x).bind f = if (sh M r).1 = ci then f (wR M r k x) else none := by rw [pR_eq _ _ _ _ _ hci]; split <;> rfl
theorem pZ_b {β : Type} (M : zHp) (ci r k : Nat) (x : Int) (f : zHp → Option β) (hci : ci ≠ 99) : (pZ M ci r k x).bind f = if (x = 0 ∨ x = 1) ∧ (sh M r).1 = ci then f (wI M r k x) else none := by rw [pZ_eq _ _ _ _ _ hci]; split <;> rfl
theorem ldI_b {β : Type} (M : zHp) (kd r : Nat) (i : Int) (f : Int → Option β) : (ldI M kd r i).bind f = if (sh M r).1 = kd ∧ 0 ≤ i ∧ i < 4096 ∧ i.toNat < (sh M r).2.1 then f (iF M r i.toNat) else none := by rw [ldI_eq]; split <;> rfl
theorem ldR_b {β : Type} (M : zHp) (kd r : Nat) (i : Int) (f : Nat → Option β) : (ldR M kd r i).bind f = if (sh M r).1 = kd ∧ 0 ≤ i ∧ i < 4096 ∧ i.toNat < (sh M r).2.2 then f (rF M r i.toNat) else none := by rw [ldR_eq]; split <;> rfl
theorem stI_b {β : Type} (M : zHp) (kd r : Nat) (i x : Int) (f : zHp → Option β) : (stI M kd r i x).bind f = if (sh M r).1 = kd ∧ 0 ≤ i ∧ i < 4096 ∧ i.toNat < (sh M r).2.1 then f (wI M r i.toNat x) else none := by rw [stI_eq]; split <;> rfl
theorem stZ_b {β : Type} (M : zHp) (kd r : Nat) (i x : Int) (f : zHp → Option β) : (stZ M kd r i x).bind f = if (x = 0 ∨ x = 1) ∧ (sh M r).1 = kd ∧ 0 ≤ i ∧ i < 4096 ∧ i.toNat < (sh M r).2.1 then f (wI M r i.toNat x) else none := by rw [stZ_eq]; split <;> rfl
theorem stR_b {β : Type} (M : zHp) (kd r : Nat) (i : Int) (x : Nat) (f : zHp → Option β) : (stR M kd r i x).bind f = if (sh M r).1 = kd ∧ 0 ≤ i ∧ i < 4096 ∧ i.toNat < (sh M r).2.2 ∧ (x = 0 ∨ ztk kd (sh M x).1 = true) then f (wR M r i.toNat x) else none := by rw [stR_eq]; split <;> rfl
theorem zb2_of {α β : Type} {o : Option (α × zHp)} {x : α} {M : zHp} (h : o = some (x, M)) (f : α → zHp → Option β) : zb2 o f = f x M := by rw [h]; rfl
theorem bnd_of {α β : Type} {o : Option α} {x : α} (h : o = some x) (f : α → Option β) : o.bind f = f x := by rw [h]; rfl
/-- a loop over d places from i on -/
def lp {α : Type} (g : Nat → α → α) : Nat → Nat → α → α
  | 0, _, a => a
  | d + 1, i, a => lp g d (i + 1) (g i a)
theorem zfu_gt {d : Nat} (h : d ≤ 520) : d < zfu := by unfold zfu; omega
set_option maxHeartbeats 1000000 in
theorem ml_size {M : zHp} (h : mSh M) (hG : RG M) {N : Nat} (hN : iF M 30 1 = (N : Int)) (hN2 : N ≤ 520) (κ : Int → zHp → Option (Int × zHp)) (a1 : Int) (ha : rg a1) :
    ∀ (d n i : Nat) (v : Int), i + d = N → d < n → f_Md_size_L4 κ 30 a1 n v (i : Int) M = κ (lp (fun e v => if iF M 36 e = a1 then zadd v 1 else v) d i v) M := by
  intro d
  induction d with
  | zero =>
    intro n i v hi hn
    obtain ⟨n, rfl⟩ : ∃ k, n = k + 1 := ⟨n - 1, by omega⟩
    unfold f_Md_size_L4
    have e1 : zle (N : Int) (i : Int) := (zle_iff (rgN (by omega)) (rgN (by omega))).mpr (by omega)
    simp [↓gI_b, ↓gR_b, ↓pI_b, ↓pZ_b, ↓pR_b, ↓ldI_b, ↓ldR_b, ↓stI_b, ↓stZ_b, ↓stR_b, zk_eq, sh_wI, sh_wR, rF_wI, iF_wR, ms30 h, ms31 h, ms32 h, ms33 h, ms34 h, ms35 h, ms36 h, ms37 h, ms38 h, ms39 h, ms40 h, ms41 h, ms42 h, ms43 h, ms44 h, ms45 h, ms46 h, ms47 h, ms48 h, ms49 h, ms50 h, mr0 h, mr1 h, mr2 h, mr3 h, mr4 h, mr5 h, mr6 h, mr7 h, mr8 h, mr9 h, mr10 h, mr11 h, mr12 h, mr13 h, mr14 h, mr15 h, mr16 h, mr17 h, mr18 h, mr19 h, hN, e1, lp]
  | succ d ih =>
    intro n i v hi hn
    obtain ⟨n, rfl⟩ : ∃ k, n = k + 1 := ⟨n - 1, by omega⟩
    unfold f_Md_size_L4
    have e1 : ¬ zle (N : Int) (i : Int) := fun q => by have := (zle_iff (rgN (by omega)) (rgN (by omega))).mp q; omega
    have e2 : (i : Int) < 4096 := by omega
    have e3 : i < 520 := by omega
    have e4 := zeq_iff (hG 36 i) ha
    have e5 := zaddN (i := i) (by omega)
    simp [↓gI_b, ↓gR_b, ↓pI_b, ↓pZ_b, ↓pR_b, ↓ldI_b, ↓ldR_b, ↓stI_b, ↓stZ_b, ↓stR_b, zk_eq, sh_wI, sh_wR, rF_wI, iF_wR, ms30 h, ms31 h, ms32 h, ms33 h, ms34 h, ms35 h, ms36 h, ms37 h, ms38 h, ms39 h, ms40 h, ms41 h, ms42 h, ms43 h, ms44 h, ms45 h, ms46 h, ms47 h, ms48 h, ms49 h, ms50 h, mr0 h, mr1 h, mr2 h, mr3 h, mr4 h, mr5 h, mr6 h, mr7 h, mr8 h, mr9 h, mr10 h, mr11 h, mr12 h, mr13 h, mr14 h, mr15 h, mr16 h, mr17 h, mr18 h, mr19 h, hN, e1, e2, e3, e4, e5, lp]
    split
    · exact ih n (i + 1) _ (by omega) (by omega)
    · exact ih n (i + 1) _ (by omega) (by omega)
