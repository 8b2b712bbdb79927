theorem zstart_T {s : State} {A : Array Value} (hts : ∀ w ∈ lw_tbl, w.before A s = true) : zT s := by
  refine ⟨fun w hw => ?_, fun q hq => ?_⟩
  · have hg : zgood w = true := (List.mem_filter.mp hw).2
    have h0 := hts w (List.mem_filter.mp hw).1
    by_cases hgw : goodWord w = true
    · exact word_at (State.WarmedH.refl s) (good_of_word hgw) h0
    · cases w <;> first | exact absurd hg hgw | exact va_Nw.of rfl h0 | skip
      rename_i ty
      cases ty <;> first | exact absurd hg hgw | exact va_AO.of h0
  · simp only [zfw, List.mem_cons, List.not_mem_nil, or_false] at hq
    rcases hq with rfl | rfl | rfl | rfl | rfl | rfl | rfl | rfl
    · exact va_Fw.of (hts _ (List.mem_append_right _ (List.mem_of_getElem? (i := 329) (by decide +kernel)))) (hts _ (List.mem_append_right _ (List.mem_of_getElem? (i := 328) (by decide +kernel)))) (hts _ (List.mem_append_right _ (List.mem_of_getElem? (i := 340) (by decide +kernel)))) (hts _ (List.mem_append_right _ (List.mem_of_getElem? (i := 338) (by decide +kernel)))) (hts _ (List.mem_append_right _ (List.mem_of_getElem? (i := 336) (by decide +kernel))))
    · exact va_Fw.of (hts _ (List.mem_append_right _ (List.mem_of_getElem? (i := 329) (by decide +kernel)))) (hts _ (List.mem_append_right _ (List.mem_of_getElem? (i := 328) (by decide +kernel)))) (hts _ (List.mem_append_right _ (List.mem_of_getElem? (i := 334) (by decide +kernel)))) (hts _ (List.mem_append_right _ (List.mem_of_getElem? (i := 332) (by decide +kernel)))) (hts _ (List.mem_append_right _ (List.mem_of_getElem? (i := 330) (by decide +kernel))))
    · exact va_Fw.of (hts _ (List.mem_append_right _ (List.mem_of_getElem? (i := 329) (by decide +kernel)))) (hts _ (List.mem_append_right _ (List.mem_of_getElem? (i := 328) (by decide +kernel)))) (hts _ (List.mem_append_right _ (List.mem_of_getElem? (i := 358) (by decide +kernel)))) (hts _ (List.mem_append_right _ (List.mem_of_getElem? (i := 356) (by decide +kernel)))) (hts _ (List.mem_append_right _ (List.mem_of_getElem? (i := 354) (by decide +kernel))))
    · exact va_Fw.of (hts _ (List.mem_append_right _ (List.mem_of_getElem? (i := 329) (by decide +kernel)))) (hts _ (List.mem_append_right _ (List.mem_of_getElem? (i := 328) (by decide +kernel)))) (hts _ (List.mem_append_right _ (List.mem_of_getElem? (i := 346) (by decide +kernel)))) (hts _ (List.mem_append_right _ (List.mem_of_getElem? (i := 344) (by decide +kernel)))) (hts _ (List.mem_append_right _ (List.mem_of_getElem? (i := 342) (by decide +kernel))))
    · exact va_Fw.of (hts _ (List.mem_append_right _ (List.mem_of_getElem? (i := 364) (by decide +kernel)))) (hts _ (List.mem_append_right _ (List.mem_of_getElem? (i := 363) (by decide +kernel)))) (hts _ (List.mem_append_right _ (List.mem_of_getElem? (i := 373) (by decide +kernel)))) (hts _ (List.mem_append_right _ (List.mem_of_getElem? (i := 371) (by decide +kernel)))) (hts _ (List.mem_append_right _ (List.mem_of_getElem? (i := 336) (by decide +kernel))))
    · exact va_Fw.of (hts _ (List.mem_append_right _ (List.mem_of_getElem? (i := 364) (by decide +kernel)))) (hts _ (List.mem_append_right _ (List.mem_of_getElem? (i := 363) (by decide +kernel)))) (hts _ (List.mem_append_right _ (List.mem_of_getElem? (i := 368) (by decide +kernel)))) (hts _ (List.mem_append_right _ (List.mem_of_getElem? (i := 366) (by decide +kernel)))) (hts _ (List.mem_append_right _ (List.mem_of_getElem? (i := 330) (by decide +kernel))))
    · exact va_Fw.of (hts _ (List.mem_append_right _ (List.mem_of_getElem? (i := 364) (by decide +kernel)))) (hts _ (List.mem_append_right _ (List.mem_of_getElem? (i := 363) (by decide +kernel)))) (hts _ (List.mem_append_right _ (List.mem_of_getElem? (i := 385) (by decide +kernel)))) (hts _ (List.mem_append_right _ (List.mem_of_getElem? (i := 383) (by decide +kernel)))) (hts _ (List.mem_append_right _ (List.mem_of_getElem? (i := 354) (by decide +kernel))))
    · exact va_Fw.of (hts _ (List.mem_append_right _ (List.mem_of_getElem? (i := 364) (by decide +kernel)))) (hts _ (List.mem_append_right _ (List.mem_of_getElem? (i := 363) (by decide +kernel)))) (hts _ (List.mem_append_right _ (List.mem_of_getElem? (i := 378) (by decide +kernel)))) (hts _ (List.mem_append_right _ (List.mem_of_getElem? (i := 376) (by decide +kernel)))) (hts _ (List.mem_append_right _ (List.mem_of_getElem? (i := 342) (by decide +kernel))))
theorem zstart_K {s : State} {A : Array Value} (hts : ∀ w ∈ lw_tbl, w.before A s = true) : ∃ D : va_G, va_K D zcl (ztys D) s := by
  have h1 : ∀ k : Nat, ∃ cI : ClassId × (Nat → Nat), (∀ q, zcl[k]? = some q → u_Kn s q.1 q.2.1 q.2.2 cI.1 cI.2) ∧ (20 ≤ k → k ≤ 26 → ArrOfT s cI.1 (zat k) ∧ va_RA s cI.1 (zat k)) := by
    intro k
    match k with
    | 0 =>
      obtain ⟨c0, i0, hK⟩ := u_known (C := R_V) (T := F_V) (N := 26) (n := 26) hts i_V (hts (.instantiable R_V 26) (List.mem_append_right _ (List.mem_of_getElem? (i := 12) (by decide +kernel))))
      exact ⟨(c0, i0), fun q hq => by cases hq; exact hK, fun h => absurd h (by decide)⟩
    | 1 =>
      obtain ⟨c0, i0, hK⟩ := u_known (C := R_E) (T := F_E) (N := 7) (n := 7) hts i_E (hts (.instantiable R_E 7) (List.mem_append_right _ (List.mem_of_getElem? (i := 64) (by decide +kernel))))
      exact ⟨(c0, i0), fun q hq => by cases hq; exact hK, fun h => absurd h (by decide)⟩
    | 2 =>
      obtain ⟨c0, i0, hK⟩ := u_known (C := R_S) (T := F_S) (N := 7) (n := 7) hts i_S (hts (.instantiable R_S 7) (List.mem_append_right _ (List.mem_of_getElem? (i := 20) (by decide +kernel))))
      exact ⟨(c0, i0), fun q hq => by cases hq; exact hK, fun h => absurd h (by decide)⟩
    | 3 =>
      obtain ⟨c0, i0, hK⟩ := u_known (C := R_Mt) (T := F_Mt) (N := 3) (n := 3) hts i_Mt (hts (.instantiable R_Mt 3) (List.mem_append_right _ (List.mem_of_getElem? (i := 58) (by decide +kernel))))
      exact ⟨(c0, i0), fun q hq => by cases hq; exact hK, fun h => absurd h (by decide)⟩
    | 4 =>
      obtain ⟨c0, i0, hK⟩ := u_known (C := R_Tb) (T := F_Tb) (N := 4) (n := 4) hts i_Tb (hts (.instantiable R_Tb 4) (List.mem_append_right _ (List.mem_of_getElem? (i := 420) (by decide +kernel))))
      exact ⟨(c0, i0), fun q hq => by cases hq; exact hK, fun h => absurd h (by decide)⟩
    | 5 =>
      obtain ⟨c0, i0, hK⟩ := u_known (C := R_Lv) (T := F_Lv) (N := 5) (n := 5) hts i_Lv (hts (.instantiable R_Lv 5) (List.mem_append_right _ (List.mem_of_getElem? (i := 139) (by decide +kernel))))
      exact ⟨(c0, i0), fun q hq => by cases hq; exact hK, fun h => absurd h (by decide)⟩
    | 6 =>
      obtain ⟨c0, i0, hK⟩ := u_known (C := R_Sg) (T := F_Sg) (N := 2) (n := 2) hts i_Sg (hts (.instantiable R_Sg 2) (List.mem_append_right _ (List.mem_of_getElem? (i := 165) (by decide +kernel))))
      exact ⟨(c0, i0), fun q hq => by cases hq; exact hK, fun h => absurd h (by decide)⟩
    | 7 =>
      obtain ⟨c0, i0, hK⟩ := u_known (C := R_Mg) (T := F_Mg) (N := 2) (n := 2) hts i_Mg (hts (.instantiable R_Mg 2) (List.mem_append_right _ (List.mem_of_getElem? (i := 123) (by decide +kernel))))
      exact ⟨(c0, i0), fun q hq => by cases hq; exact hK, fun h => absurd h (by decide)⟩
    | 8 =>
      obtain ⟨c0, i0, hK⟩ := u_known (C := R_Md) (T := F_Md) (N := 30) (n := 30) hts i_Md (hts (.instantiable R_Md 30) (List.mem_append_right _ (List.mem_of_getElem? (i := 612) (by decide +kernel))))
      exact ⟨(c0, i0), fun q hq => by cases hq; exact hK, fun h => absurd h (by decide)⟩
    | 20 =>
      obtain ⟨cA, kA, comp, h1, h2, h3⟩ := Cond.arrayClass_spec (hts (.arrayClass .int) (List.mem_append_right _ (List.mem_of_getElem? (i := 56) (by decide +kernel))))
      exact ⟨(cA, fun _ => 0), fun q hq => by simp [zcl] at hq, fun _ _ => ⟨fun n z => ⟨fun k h => (by cases h), kA, h2, comp, h3⟩, h1⟩⟩
    | 21 =>
      obtain ⟨cA, kA, comp, h1, h2, h3⟩ := Cond.arrayClass_spec (hts (.arrayClass .boolean) (List.mem_append_right _ (List.mem_of_getElem? (i := 164) (by decide +kernel))))
      exact ⟨(cA, fun _ => 0), fun q hq => by simp [zcl] at hq, fun _ _ => ⟨fun n z => ⟨fun k h => (by cases h), kA, h2, comp, h3⟩, h1⟩⟩
    | 22 =>
      obtain ⟨comp, cA, kA, h0, -, h2, h3, h1⟩ := Cond.arrayOver_spec (hts (.arrayOver (.object "LayerVault$Entry")) (List.mem_append_right _ (List.mem_of_getElem? (i := 70) (by decide +kernel))))
      exact ⟨(cA, fun _ => 0), fun q hq => by simp [zcl] at hq, fun _ _ => ⟨fun n z => ⟨fun k h => (by cases h), kA, h2, comp, h3⟩, kA, comp, h2, h3, h0, h1⟩⟩
    | 23 =>
      obtain ⟨comp, cA, kA, h0, -, h2, h3, h1⟩ := Cond.arrayOver_spec (hts (.arrayOver (.object "LayerVault$Table")) (List.mem_append_right _ (List.mem_of_getElem? (i := 145) (by decide +kernel))))
      exact ⟨(cA, fun _ => 0), fun q hq => by simp [zcl] at hq, fun _ _ => ⟨fun n z => ⟨fun k h => (by cases h), kA, h2, comp, h3⟩, kA, comp, h2, h3, h0, h1⟩⟩
    | 24 =>
      obtain ⟨comp, cA, kA, h0, -, h2, h3, h1⟩ := Cond.arrayOver_spec (hts (.arrayOver (.object "LayerVault$Level")) (List.mem_append_right _ (List.mem_of_getElem? (i := 119) (by decide +kernel))))
      exact ⟨(cA, fun _ => 0), fun q hq => by simp [zcl] at hq, fun _ _ => ⟨fun n z => ⟨fun k h => (by cases h), kA, h2, comp, h3⟩, kA, comp, h2, h3, h0, h1⟩⟩
    | 25 =>
      obtain ⟨comp, cA, kA, h0, -, h2, h3, h1⟩ := Cond.arrayOver_spec (hts (.arrayOver (.object "LayerVault$Single")) (List.mem_append_right _ (List.mem_of_getElem? (i := 121) (by decide +kernel))))
      exact ⟨(cA, fun _ => 0), fun q hq => by simp [zcl] at hq, fun _ _ => ⟨fun n z => ⟨fun k h => (by cases h), kA, h2, comp, h3⟩, kA, comp, h2, h3, h0, h1⟩⟩
    | 26 =>
      obtain ⟨comp, cA, kA, h0, -, h2, h3, h1⟩ := Cond.arrayOver_spec (hts (.arrayOver (.object "LayerVault$Cursor")) (List.mem_append_right _ (List.mem_of_getElem? (i := 129) (by decide +kernel))))
      exact ⟨(cA, fun _ => 0), fun q hq => by simp [zcl] at hq, fun _ _ => ⟨fun n z => ⟨fun k h => (by cases h), kA, h2, comp, h3⟩, kA, comp, h2, h3, h0, h1⟩⟩
    | 9 => exact ⟨(0, fun _ => 0), fun q hq => by simp [zcl] at hq, fun h => absurd h (by decide)⟩
    | 10 => exact ⟨(0, fun _ => 0), fun q hq => by simp [zcl] at hq, fun h => absurd h (by decide)⟩
    | 11 => exact ⟨(0, fun _ => 0), fun q hq => by simp [zcl] at hq, fun h => absurd h (by decide)⟩
    | 12 => exact ⟨(0, fun _ => 0), fun q hq => by simp [zcl] at hq, fun h => absurd h (by decide)⟩
    | 13 => exact ⟨(0, fun _ => 0), fun q hq => by simp [zcl] at hq, fun h => absurd h (by decide)⟩
    | 14 => exact ⟨(0, fun _ => 0), fun q hq => by simp [zcl] at hq, fun h => absurd h (by decide)⟩
    | 15 => exact ⟨(0, fun _ => 0), fun q hq => by simp [zcl] at hq, fun h => absurd h (by decide)⟩
    | 16 => exact ⟨(0, fun _ => 0), fun q hq => by simp [zcl] at hq, fun h => absurd h (by decide)⟩
    | 17 => exact ⟨(0, fun _ => 0), fun q hq => by simp [zcl] at hq, fun h => absurd h (by decide)⟩
    | 18 => exact ⟨(0, fun _ => 0), fun q hq => by simp [zcl] at hq, fun h => absurd h (by decide)⟩
    | 19 => exact ⟨(0, fun _ => 0), fun q hq => by simp [zcl] at hq, fun h => absurd h (by decide)⟩
    | k + 27 => exact ⟨(0, fun _ => 0), fun q hq => by simp [zcl] at hq, fun _ h => absurd h (by omega)⟩
  refine ⟨(fun k => (Classical.choose (h1 k)).1, fun k => (Classical.choose (h1 k)).2), fun k q hq => (Classical.choose_spec (h1 k)).1 q hq, fun k q hq => ?_⟩
  have hk : k < 7 := (List.getElem?_eq_some_iff.mp hq).1
  have h2 := (Classical.choose_spec (h1 (k + 20))).2 (by omega) (by omega)
  have h3 := ztys_at (fun k => (Classical.choose (h1 k)).1, fun k => (Classical.choose (h1 k)).2) (k + 20) (by omega) (by omega)
  rw [Nat.add_sub_cancel] at h3
  cases h3.symm.trans hq
  exact h2
theorem zstart {p : Program} {e : Env} {s : State} {m : MethodId} {below : List Frame} {meth : Method} {c : Code} (l : Launch) {b L : Nat} {xs : Nat → Int32} (hL : L ≤ 2048) (C0 : lw_At p s m meth c b L xs) (hp : ∃ M', f_Law_law L (fun j => (xs j).toInt) [] = some (1, M')) : W p l e room_1 s m #[Value.ref b] below meth c s.heap [] 0 0 (lw_Z below #[Value.ref b] s) (entryFrame m ([Value.ref b] : List Value).toArray 4) := by
  obtain ⟨hx, hb, hr, hml, hown, hts, hX, hbl, hlocks, hgv⟩ := C0
  obtain ⟨M', hf⟩ := hp
  obtain ⟨D, hK⟩ := zstart_K hts
  have C : zC D s.heap.size p s m meth c code 4 "LayerVaultLaw" := ⟨hx, hb, hml, hown, zstart_T hts, hK, Nat.le_refl _, hlocks⟩
  have hX' : va_X b L (fun j => Int32.ofInt ((fun j => (xs j).toInt) j)) s s.heap := by
    have : (fun j => Int32.ofInt ((fun j => (xs j).toInt) j)) = xs := by
      funext j
      exact Int32.ofInt_toInt (xs j)
    rw [this]
    exact hX
  have hl := lv_entry ([.ref b]) (n := 4) (Nat.le_of_ble_eq_true rfl)
  rw [lg_entry_eq]
  refine c_Law_law C hr (Nat.le_refl _) hbl hL hX' hf _ s.heap [] ⟨hl.1, hl.2.1, fun k v hk => ?_⟩ ⟨fun k q h => by simp [zW] at h, by simp, fun i c h => by simp at h⟩ va_S.rf
  match k, hk with
  | 0, hk => cases hk; exact ⟨hl.2.2 (0, .ref b) List.mem_cons_self, rfl⟩
  | 1, hk => cases hk
  | 2, hk => cases hk
  | 3, hk => cases hk
  | k + 4, hk => simp at hk
