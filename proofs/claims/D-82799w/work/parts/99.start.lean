/-! THE START: what the Statement gives is what EE asks; the claim -/
section START
set_option maxRecDepth 100000
/-- classes -/
theorem st_classes {s : State} {b : Nat} (hts : ∀ w ∈ lw_tbl, w.before #[Value.ref b] s = true) : ∃ D : va_G, ∀ (k : Nat) (r : vw_C), clX[k]? = some r → u_Kn s r.1 r.2.1 r.2.2 (D.1 k) (D.2 k) := by
  have kn : ∀ {C : String} {T : u_T} {N n : Nat}, (∀ w ∈ u_ws C T N, w ∈ lw_all) → Cond.instantiable C n ∈ lw_all → ∃ q : ClassId × (Nat → Nat), u_Kn s C T N q.1 q.2 := by
    intro C T N n h1 h2
    obtain ⟨c, i, h⟩ := u_known (C := C) (T := T) (N := N) (n := n) hts (fun w h => lw_all_tbl (h1 w h)) (hts _ (lw_all_tbl h2))
    exact ⟨(c, i), h⟩
  have h0 : ∀ k : Nat, ∃ q : ClassId × (Nat → Nat), ∀ r, clX[k]? = some r → u_Kn s r.1 r.2.1 r.2.2 q.1 q.2 := by
    intro k
    match k with
    | 0 => obtain ⟨q, h⟩ := kn in_X0 q90; exact ⟨q, fun r hr => by cases hr; exact h⟩
    | 1 => obtain ⟨q, h⟩ := kn in_X1 q163; exact ⟨q, fun r hr => by cases hr; exact h⟩
    | 2 => obtain ⟨q, h⟩ := kn in_X2 q624; exact ⟨q, fun r hr => by cases hr; exact h⟩
    | 3 => obtain ⟨q, h⟩ := kn in_X3 q848; exact ⟨q, fun r hr => by cases hr; exact h⟩
    | 4 => obtain ⟨q, h⟩ := kn in_X4 q122; exact ⟨q, fun r hr => by cases hr; exact h⟩
    | 5 => obtain ⟨q, h⟩ := kn in_Xw q203; exact ⟨q, fun r hr => by cases hr; exact h⟩
    | 6 => obtain ⟨q, h⟩ := kn in_X7 q414; exact ⟨q, fun r hr => by cases hr; exact h⟩
    | 7 => obtain ⟨q, h⟩ := kn in_X8 q453; exact ⟨q, fun r hr => by cases hr; exact h⟩
    | 8 => obtain ⟨q, h⟩ := kn in_X9 q463; exact ⟨q, fun r hr => by cases hr; exact h⟩
    | 9 => obtain ⟨q, h⟩ := kn in_X11 q473; exact ⟨q, fun r hr => by cases hr; exact h⟩
    | 10 => obtain ⟨q, h⟩ := kn in_X12 q504; exact ⟨q, fun r hr => by cases hr; exact h⟩
    | 11 => obtain ⟨q, h⟩ := kn in_X13 q517; exact ⟨q, fun r hr => by cases hr; exact h⟩
    | k + 12 => exact ⟨(0, fun _ => 0), fun r hr => by simp [clX] at hr⟩
  obtain ⟨f, hf⟩ := Classical.axiomOfChoice h0
  exact ⟨(fun k => (f k).1, fun k => (f k).2), fun k r hr => hf k r hr⟩
/-- array classes -/
theorem st_arrays {s : State} {b : Nat} (hts : ∀ w ∈ lw_tbl, w.before #[Value.ref b] s = true) : ∃ cA : Nat → ClassId, ∀ (k : Nat) (q : ClassId × FieldType), [(cA 1, FieldType.int), (cA 2, .byte), (cA 3, .boolean), (cA 4, .object "PlyHouse$Node")][k]? = some q → ArrOfT s q.1 q.2 ∧ va_RA s q.1 q.2 := by
  obtain ⟨c1, k1, m1, a1, a2, a3⟩ := Cond.arrayClass_spec (hts _ (lw_all_tbl q190))
  obtain ⟨c2, k2, m2, b1, b2, b3⟩ := Cond.arrayClass_spec (hts _ (lw_all_tbl q426))
  obtain ⟨c3, k3, m3, d1, d2, d3⟩ := Cond.arrayClass_spec (hts _ (lw_all_tbl q756))
  obtain ⟨m4, c4, k4, e1, -, e2, e3, e4⟩ := Cond.arrayOver_spec (hts _ q169)
  refine ⟨fun i => if i = 1 then c1 else if i = 2 then c2 else if i = 3 then c3 else c4, fun k q hq => ?_⟩
  match k, hq with
  | 0, hq => cases hq; exact ⟨fun n z => ⟨(fun k h => by cases h), k1, a2, m1, a3⟩, a1⟩
  | 1, hq => cases hq; exact ⟨fun n z => ⟨(fun k h => by cases h), k2, b2, m2, b3⟩, b1⟩
  | 2, hq => cases hq; exact ⟨fun n z => ⟨(fun k h => by cases h), k3, d2, m3, d3⟩, d1⟩
  | 3, hq => cases hq; exact ⟨fun n z => ⟨(fun k h => by cases h), k4, e2, m4, e3⟩, k4, m4, e2, e3, e1, e4⟩
  | k + 4, hq => simp at hq
def tmX (i : Nat) : Term := Term.string "PlyHouse$Reader" (siX.getD i 0)
theorem fl_ex : ∀ i, i < 12 → (Cond.exactly (tmX i) "java/lang/String") ∈ flatC (Jvm.Cond.and given_1 narrow_1) := by decide +kernel
theorem fl_co : ∀ i, i < 12 → (Cond.eq (.field (tmX i) "java/lang/String" "coder" "B") (.int 0)) ∈ flatC (Jvm.Cond.and given_1 narrow_1) := by decide +kernel
theorem fl_ar : ∀ i, i < 12 → (Cond.arrayOf (.field (tmX i) "java/lang/String" "value" "[B") .byte) ∈ flatC (Jvm.Cond.and given_1 narrow_1) := by decide +kernel
theorem fl_le : ∀ i, i < 12 → (Cond.eq (.length (.field (tmX i) "java/lang/String" "value" "[B")) (.int (Int32.ofNat (xs_len.getD i 0)))) ∈ flatC (Jvm.Cond.and given_1 narrow_1) := by decide +kernel
theorem fl_el : ∀ i, i < 12 → ∀ j, j < xs_len.getD i 0 → (Cond.eq (.elem (.field (tmX i) "java/lang/String" "value" "[B") (.int (Int32.ofNat j))) (.int ((xs_byt.getD i []).getD j 0))) ∈ flatC (Jvm.Cond.and given_1 narrow_1) := by decide +kernel
theorem fl_ne : ∀ i, i < 12 → ∀ j, j < 12 → i ≠ j → (Cond.not (Cond.eq (tmX i) (tmX j))) ∈ flatC (Jvm.Cond.and given_1 narrow_1) ∨ (Cond.not (Cond.eq (tmX j) (tmX i))) ∈ flatC (Jvm.Cond.and given_1 narrow_1) := by decide +kernel
theorem fl_len : ∀ i, i < 12 → xs_len.getD i 0 < 2 ^ 31 := by decide
theorem u32_1 : ∀ i, i < 12 → ¬ UInt32.ofNat (i + 1) = 0 ∧ ¬ UInt32.ofNat (i + 1) = 999 ∧ (UInt32.ofNat (i + 1)).toNat = i + 1 := by decide
theorem u32_2 : ∀ i, i < 12 → ¬ UInt32.ofNat (i + 101) = 0 ∧ ¬ UInt32.ofNat (i + 101) = 999 ∧ (UInt32.ofNat (i + 101)).toNat = i + 101 := by decide
theorem ref_of_zq {C n d : String} {A : Nat → Prop} {U : State} {H : Heap} (h : va_Zq C n d A U H) : ∃ u : RefV, va_Z C n d u.v A U H := by
  rcases h with h | ⟨t, h⟩
  · exact ⟨⟨.null, rfl⟩, h⟩
  · exact ⟨⟨.ref t, rfl⟩, h⟩
theorem nw_narrow {s : State} {b : Nat} (hs : ∀ c ∈ flatC (Jvm.Cond.and given_1 narrow_1), c.before #[Value.ref b] s = true) : ∀ w ∈ nwX.drop 39, va_Nw w s := by
  have h0 : ∀ w ∈ nwX.drop 39, w ∈ flatC (Jvm.Cond.and given_1 narrow_1) ∧ w.onTables = true := by decide +kernel
  exact fun w hw => va_Nw.of (h0 w hw).2 (hs w (h0 w hw).1)
theorem st_str {s : State} {b : Nat} (hts : ∀ w ∈ lw_tbl, w.before #[Value.ref b] s = true) : ∀ i, i < 12 → (Cond.stringRef "PlyHouse$Reader" (siX.getD i 0) (stX.getD i "")).before #[Value.ref b] s = true := by
  intro i hi
  match i, hi with
  | 0, _ => exact hts _ q269
  | 1, _ => exact hts _ q356
  | 2, _ => exact hts _ q390
  | 3, _ => exact hts _ q395
  | 4, _ => exact hts _ q528
  | 5, _ => exact hts _ q515
  | 6, _ => exact hts _ q408
  | 7, _ => exact hts _ q447
  | 8, _ => exact hts _ q448
  | 9, _ => exact hts _ q449
  | 10, _ => exact hts _ q450
  | 11, _ => exact hts _ q451
/-- what EE asks, at the law's entry -/
theorem st_EE {s : State} {b L : Nat} {xs : Nat → Int32} (hts : ∀ w ∈ lw_tbl, w.before #[Value.ref b] s = true) (hg : (Jvm.Cond.and given_1 narrow_1).before #[Value.ref b] s = true) (hX : va_X b L xs s s.heap) (hb : b < s.heap.size) : ∃ G : GG, gb G = s.heap.size ∧ va_K (gD G) clX (tyX G) s ∧ EE G (L, xs) s ∧ gX G 0 = .ref b ∧ (∀ x, gX G x = .null ∨ ∃ a, gX G x = .ref a) := by
  have hs := flat_of_before _ hg
  obtain ⟨D, hD⟩ := st_classes hts
  obtain ⟨cA, hcA⟩ := st_arrays hts
  have hA : ∀ a : Nat, a < s.heap.size → ¬ (fun q : Nat => s.heap.size ≤ q) a := fun a h1 h2 => by
    have h3 : s.heap.size ≤ a := h2
    omega
  obtain ⟨adK, adV, hV, hT⟩ := vk_Sof (args := #[Value.ref b]) (s := s) (N := 12) (tm := tmX) (len := xs_len) (byt := xs_byt) (A := fun q : Nat => s.heap.size ≤ q) fl_len (fun i hi => hs _ (fl_ex i hi)) (fun i hi => hs _ (fl_co i hi)) (fun i hi => hs _ (fl_ar i hi)) (fun i hi => hs _ (fl_le i hi)) (fun i hi j hj => hs _ (fl_el i hi j hj)) (fun i j hi hj hne => (fl_ne i hi j hj hne).elim (fun h => Or.inl (hs _ h)) (fun h => Or.inr (hs _ h))) hA
  have hcs := va_Zof (A := fun q : Nat => s.heap.size ≤ q) (hts _ q283) (hts _ (lw_all_tbl q62)) (va_eqi (z := 1) (hs _ (by decide +kernel))) hA
  obtain ⟨fm, hfm⟩ := ref_of_zq (va_Zqof (A := fun q : Nat => s.heap.size ≤ q) (hts _ q326) (hts _ (lw_all_tbl q66)) (hs _ (by decide +kernel)) hA)
  obtain ⟨u1, hu1⟩ := ref_of_zq (va_Zqof (A := fun q : Nat => s.heap.size ≤ q) (hts _ q227) (hts _ (lw_all_tbl q59)) (hs _ (by decide +kernel)) hA)
  obtain ⟨u2, hu2⟩ := ref_of_zq (va_Zqof (A := fun q : Nat => s.heap.size ≤ q) (hts _ q229) (hts _ (lw_all_tbl q59)) (hs _ (by decide +kernel)) hA)
  refine ⟨(s.heap.size, D, cA, fun x => if x = 0 then .ref b else if x = 999 then fm.v else if x.toNat ≤ 12 then .ref (adK (x.toNat - 1)) else .ref (adV (x.toNat - 101))), rfl, ⟨hD, hcA⟩, ⟨nwX_tbl hts (nw_narrow hs), va_AO.of (hts _ q169), ?_, ?_, hcs, ?_, ⟨b, ?_, hX, hb, hA b hb⟩, ⟨va_Nw.of rfl (hts _ q207), ⟨hts _ q227, u1, hu1⟩, ⟨hts _ q229, u2, hu2⟩⟩⟩, ?_, ?_⟩
  · intro i hi
    obtain ⟨a1, a2, a3⟩ := u32_1 i hi
    obtain ⟨b1, b2, b3⟩ := u32_2 i hi
    obtain ⟨v1, v2, v3, v4⟩ := hV.1 i hi
    refine ⟨adK i, adV i, ?_, ?_, v1, v2, v3, v4⟩
    · show (if UInt32.ofNat (i + 1) = 0 then _ else _) = _
      rw [if_neg a1, if_neg a2, a3, if_pos (by omega)]
      rfl
    · show (if UInt32.ofNat (i + 101) = 0 then _ else _) = _
      rw [if_neg b1, if_neg b2, b3, if_neg (by omega)]
      simp
  · intro i hi
    obtain ⟨a1, a2, a3⟩ := u32_1 i hi
    refine ⟨adK i, ?_, vk_R.of (st_str hts i hi) (hT i hi)⟩
    show (if UInt32.ofNat (i + 1) = 0 then _ else _) = _
    rw [if_neg a1, if_neg a2, a3, if_pos (by omega)]
    rfl
  · exact hfm
  · rfl
  · rfl
  · intro x
    have h3 : ∀ u : RefV, u.v = Value.null ∨ ∃ a, u.v = Value.ref a := by
      rintro ⟨v, hv⟩
      cases v with
      | null => exact Or.inl rfl
      | ref a => exact Or.inr ⟨a, rfl⟩
      | _ => cases hv
    have h4 : ∀ w : Value, w = (if x = 0 then Value.ref b else if x = 999 then fm.v else if x.toNat ≤ 12 then .ref (adK (x.toNat - 1)) else .ref (adV (x.toNat - 101))) → (w = .null ∨ ∃ a, w = .ref a) := by
      intro w hw
      split at hw
      · exact Or.inr ⟨_, hw⟩
      · split at hw
        · rw [hw]
          exact h3 fm
        · split at hw
          · exact Or.inr ⟨_, hw⟩
          · exact Or.inr ⟨_, hw⟩
    exact h4 _ rfl
end START
