set_option maxRecDepth 100000
theorem hn_J2_grow_2 : yJ2_grow_2.cls ≠ "java/lang/invoke/MethodHandle" ∧ yJ2_grow_2.cls ≠ "java/lang/invoke/VarHandle" ∧ (parseMethodDescriptor yJ2_grow_2.desc).map (fun d => d.parameters.length) = some 1 := by decide +kernel
theorem hd_J2_grow_2 : yJ2_grow_2.cls = "java/util/ArrayList" ∧ yJ2_grow_2.cls ≠ "java/lang/invoke/MethodHandle" ∧ yJ2_grow_2.cls ≠ "java/lang/invoke/VarHandle" ∧ (parseMethodDescriptor yJ2_grow_2.desc).map (fun d => d.parameters.length) = some 1 := ⟨rfl, hn_J2_grow_2⟩
abbrev rm_J2_grow_2 : Room := { frames := 3, cells := 1, slots := 110, locals := 104 }
set_option maxHeartbeats 1000000 in
theorem cg_J2_grow_2 (l : Launch) {G : zG} {H0 : Heap} {al ar cp : Nat} {mc n : Int} {el : Nat → Nat} (hL : zLst G H0 al ar mc n cp el) (hn : n = cp ∧ n ≤ 70) (hE : ∀ i : Nat, (i : Int) < n → zEl G H0 (el i)) : zM l yJ2_grow_2 (ws_ yJ2_grow_2 cJ2_grow_2 4 (some (.array (.object "java/lang/Object")))) rm_J2_grow_2 G (zO1 al H0) [.ref al, .int (iI (n + 1))] H0 (fun r H1 => ∃ x, r = some (.ref x) ∧ (H0.size ≤ x ∧ ∃ c1 : Nat, n < c1 ∧ c1 ≤ 110 ∧ zO G H1 al 35 [.int (iI mc), .ref x, .int (iI n)] ∧ zAO G H1 x c1 (zEf n el))) (fun _ => False) := by
  refine z_enter (by decide +kernel) (Nat.le_of_ble_eq_true rfl) ?_
  intro p e s m args below meth c ls hx hb hret hml hown hts hlocks htab hnm hK hH hl
  subst hH
  have hAn : ∀ q, s.heap.size ≤ q → (zO1 al s.heap) q := fun _ h => Or.inr h
  have hS : va_S (zO1 al s.heap) s.heap s.heap [] := va_S.rf
  have hS0 := hS
  have hsz_0 : s.heap.size ≤ s.heap.size := Nat.le_refl _
  have hl : lv_has ls 4 [(0, .ref al), (1, .int (iI (n + 1)))] := hl
  have hbd := hL.2.2.1
  have hcp := hL.2.2.2.1
  have hne := hL.2.2.2.2
  have hA_al : zO1 al s.heap al := Or.inl rfl
  have hmx : 1 ≤ tw_max (n + 1 - ((cp : Nat) : Int)) ((cp / 2 : Nat) : Int) ∧ tw_max (n + 1 - ((cp : Nat) : Int)) ((cp / 2 : Nat) : Int) ≤ 35 := by unfold tw_max; split <;> omega
  refine lv_aload_n hx hb dJ2_grow_2_0 rfl (lv_at hl 0 rfl) ?_
  refine z_get (k := 1) hx hb hts in_J2 hown hK hL.1 rfl (by decide) q132 rfl (v := .ref ar) rfl dJ2_grow_2_1 ?_
  refine z_alenA hx hb hK hL.2.1 dJ2_grow_2_4 ?_
  refine lv_istore_n (lv' := [(2, .int (iI ((cp : Nat) : Int))), (0, .ref al), (1, .int (iI (n + 1)))]) hx hb dJ2_grow_2_5 rfl hl (by decide) rfl (fun ls hl => ?_)
  refine lv_iload_n hx hb dJ2_grow_2_6 rfl (lv_at hl 0 rfl) ?_
  refine z_if_gt (x := ((cp : Nat) : Int)) (tgt := 20) hx hb (by first | with_reducible assumption | omega | exact ⟨by omega, by omega⟩) dJ2_grow_2_7 (by decide) (fun c_1 => ?_) (fun c_1 => ?_)
  · refine lv_iload_n hx hb dJ2_grow_2_20 rfl (lv_at hl 0 rfl) ?_
    refine lv_iload_n hx hb dJ2_grow_2_21 rfl (lv_at hl 2 rfl) ?_
    refine lv_iload_n hx hb dJ2_grow_2_22 rfl (lv_at hl 0 rfl) ?_
    refine z_isub (x := n + 1) (y := ((cp : Nat) : Int)) hx hb dJ2_grow_2_23 ?_
    refine lv_iload_n hx hb dJ2_grow_2_24 rfl (lv_at hl 0 rfl) ?_
    refine lv_iconst (v := iI 1) hx hb dJ2_grow_2_25 rfl ?_
    refine lv_ishr hx hb dJ2_grow_2_26 ?_
    refine z_top32 (y := ((cp / 2 : Nat) : Int)) (by rw [show (iI 1 &&& 31 : Int32) = iI 1 by decide]; exact iI_half _ (by omega)) ?_
    refine z_callp (vx_runS (As := [.int (iI ((cp : Nat) : Int)), .int (iI (n + 1 - ((cp : Nat) : Int))), .int (iI ((cp / 2 : Nat) : Int))]) (rest := []) ⟨hx, hb, hml, hown, hts⟩ (cg_J14_newLength l (i0 := ((cp : Nat) : Int)) (i1 := n + 1 - ((cp : Nat) : Int)) (i2 := ((cp / 2 : Nat) : Int)) (by first | with_reducible assumption | omega | exact ⟨by omega, by omega⟩)) (va_cwS 3 hts (lw_S q1081 q1082 q64 q1083) rfl rfl rfl hn_J14_newLength ⟨Nat.le_of_ble_eq_true rfl, Nat.le_of_ble_eq_true rfl⟩) (z_preS hK hS (zN_le hAn hS)) rfl rfl hl.1 rfl (lv_room (Nat.le_of_ble_eq_true rfl)) dJ2_grow_2_27 ⟨Nat.le_of_ble_eq_true rfl, Nat.le_of_ble_eq_true rfl⟩) hS (zN_le hAn hS) rfl rfl (fun locs hS => ?_)
    obtain ⟨N, hN⟩ : ∃ N : Nat, ((cp : Nat) : Int) + tw_max (n + 1 - ((cp : Nat) : Int)) ((cp / 2 : Nat) : Int) = (N : Int) := ⟨(((cp : Nat) : Int) + tw_max (n + 1 - ((cp : Nat) : Int)) ((cp / 2 : Nat) : Int)).toNat, by omega⟩
    refine z_top (x := ((cp : Nat) : Int) + tw_max (n + 1 - ((cp : Nat) : Int)) ((cp / 2 : Nat) : Int)) (y := ((N : Nat) : Int)) hN ?_
    refine lv_istore_n (lv' := [(3, .int (iI ((N : Nat) : Int))), (2, .int (iI ((cp : Nat) : Int))), (0, .ref al), (1, .int (iI (n + 1)))]) hx hb dJ2_grow_2_30 rfl hl (by decide) rfl (fun ls hl => ?_)
    refine lv_aload_n hx hb dJ2_grow_2_31 rfl (lv_at hl 2 rfl) ?_
    refine lv_aload_n hx hb dJ2_grow_2_32 rfl (lv_at hl 2 rfl) ?_
    refine z_get (k := 1) hx hb hts in_J2 hown hK hL.1 rfl (by decide) q132 rfl (v := .ref ar) rfl dJ2_grow_2_33 ?_
    refine lv_iload_n hx hb dJ2_grow_2_36 rfl (lv_at hl 0 rfl) ?_
    refine z_callX (vx_runS (As := [.ref ar, .int (iI ((N : Nat) : Int))]) (rest := [.ref al]) ⟨hx, hb, hml, hown, hts⟩ (cg_J19_copyOf l (N := N) hL.2.1 (by omega) hE) (va_cwS 2 hts (lw_S q1091 q1092 q74 q1093) rfl rfl rfl hn_J19_copyOf ⟨Nat.le_of_ble_eq_true rfl, Nat.le_of_ble_eq_true rfl⟩) (z_preS hK hS (zN_le hAn hS)) rfl rfl hl.1 rfl (lv_room (Nat.le_of_ble_eq_true rfl)) dJ2_grow_2_37 ⟨Nat.le_of_ble_eq_true rfl, Nat.le_of_ble_eq_true rfl⟩) hS (zN_le hAn hS) (fun x_2 H_3 locs hp hz hk hS1 => ?_)
    obtain ⟨hp_4, hp_5⟩ := hp
    have hS := hS1
    have hk_6 := fun (q : Nat) (hq : q < Array.size s.heap) => hk q hq (Nat.not_le.mpr hq)
    have ne_7 : al ≠ x_2 := by have := hL.1.lt; omega
    have ne_8 : ar ≠ x_2 := by have := hL.2.1.lt; omega
    have hf_9 := va_at.kept hL.1 (hk_6 _ hL.1.lt)
    have hf_10 := va_at.kept hL.2.1 (hk_6 _ hL.2.1.lt)
    have hsz_11 : s.heap.size ≤ H_3.size := hS.1
    have hN_12 : ∀ q : Nat, q < s.heap.size → H_3[q]? = s.heap[q]? := fun q hq => (hk_6 q (Nat.lt_of_lt_of_le hq hS0.1)).trans ((fun _ _ => rfl) q hq)
    have hS0 := hS
    refine lv_dup_x1 hx hb dJ2_grow_2_40 rfl rfl ?_
    refine z_put (v := .ref x_2) hx hb hts in_J2 tyJ2 tyJ2_ok nmJ2 hown hK hf_9 hA_al hS rfl 1 (by decide) q132 rfl rfl rfl rfl (Nat.le_of_ble_eq_true rfl) dJ2_grow_2_41 (fun H_13 locs ho_14 hz_15 hk_16 hS1 => ?_)
    have hS := hS1
    have hf_17 := va_at.kept hp_5 (hk_16 _ (Ne.symm ne_7))
    have hsz_18 : s.heap.size ≤ H_13.size := hS.1
    have hS0 := hS
    exact z_aret (r := some x_2) hx hb hret (Or.inr ⟨_, rfl⟩) hlocks hS ⟨_, rfl, by omega, N, by omega, by omega, ho_14, hf_17⟩ (Nat.le_of_ble_eq_true rfl) (Nat.le_of_ble_eq_true rfl) dJ2_grow_2_44
  · refine lv_aload_n hx hb dJ2_grow_2_10 rfl (lv_at hl 1 rfl) ?_
    refine z_get (k := 1) hx hb hts in_J2 hown hK hL.1 rfl (by decide) q132 rfl (v := .ref ar) rfl dJ2_grow_2_11 ?_
    refine va_gets (v := .ref G.2.2.1) hx hb hK.2.2.2.2.2.2.1 hS hown (hts _ q130) (fun x h => h) dJ2_grow_2_14 ?_
    refine lv_acmp_eq (rx := some ar) (ry := some G.2.2.1) (tgt := 45) hx hb dJ2_grow_2_17 (by decide) (fun c_19 => ?_) (fun c_19 => ?_)
    · refine lv_aload_n hx hb dJ2_grow_2_45 rfl (lv_at hl 1 rfl) ?_
      refine lv_bipush (v := iI 10) hx hb dJ2_grow_2_46 (by decide) ?_
      refine lv_iload_n hx hb dJ2_grow_2_48 rfl (lv_at hl 2 rfl) ?_
      refine z_mmax (x := 10) (y := n + 1) hx hb (hl.1.trans hml.symm) hown (hts _ q1157) (hts _ q1085) (hts _ q63) (hts _ q1086) (Nat.le_of_ble_eq_true rfl) (Nat.le_of_ble_eq_true rfl) (Nat.le_of_ble_eq_true rfl) (Nat.le_of_ble_eq_true rfl) (by decide) (by first | with_reducible assumption | omega | exact ⟨by omega, by omega⟩) dJ2_grow_2_49 ?_
      refine z_top (x := tw_max 10 (n + 1)) (y := 10) (by rw [show n = 0 by omega]; rfl) ?_
      refine z_newAO (N := 10) hx hb hts hown q1158 hK hS (by omega) (by omega) (Nat.le_of_ble_eq_true rfl) (by show _ ≤ 110; omega) dJ2_grow_2_52 (fun q_20 H_21 hq_20 ho_22 hz_23 hk_24 hS1 => ?_)
      refine W.widen (k := 1) (n := 110) (Nat.le_of_ble_eq_true rfl) (by omega) ?_
      have hS := hS1
      have ne_25 : al ≠ q_20 := by have := hL.1.lt; omega
      have ne_26 : ar ≠ q_20 := by have := hL.2.1.lt; omega
      have hf_27 := va_at.kept hL.1 (hk_24 _ hL.1.lt)
      have hf_28 := va_at.kept hL.2.1 (hk_24 _ hL.2.1.lt)
      have hsz_29 : s.heap.size ≤ H_21.size := hS.1
      have hN_30 : ∀ q : Nat, q < s.heap.size → H_21[q]? = s.heap[q]? := fun q hq => (hk_24 q (Nat.lt_of_lt_of_le hq hS0.1)).trans ((fun _ _ => rfl) q hq)
      have hS0 := hS
      have hA_q_20 := hAn q_20 (by omega)
      refine lv_dup_x1 hx hb dJ2_grow_2_55 rfl rfl ?_
      refine z_put (v := .ref q_20) hx hb hts in_J2 tyJ2 tyJ2_ok nmJ2 hown hK hf_27 hA_al hS rfl 1 (by decide) q132 rfl rfl rfl rfl (Nat.le_of_ble_eq_true rfl) dJ2_grow_2_56 (fun H_31 locs ho_32 hz_33 hk_34 hS1 => ?_)
      have hS := hS1
      have hf_35 := va_at.kept ho_22 (hk_34 _ (Ne.symm ne_25))
      have hsz_36 : s.heap.size ≤ H_31.size := hS.1
      have hS0 := hS
      exact z_aret (r := some q_20) hx hb hret (Or.inr ⟨_, rfl⟩) hlocks hS ⟨_, rfl, by omega, 10, by omega, by omega, ho_32, (zAO_congr hf_35 (fun k _ => (if_neg (by omega)).symm))⟩ (Nat.le_of_ble_eq_true rfl) (Nat.le_of_ble_eq_true rfl) dJ2_grow_2_59
    · exact absurd (congrArg some (hcp (by omega))) c_19
theorem hn_J2_grow : yJ2_grow.cls ≠ "java/lang/invoke/MethodHandle" ∧ yJ2_grow.cls ≠ "java/lang/invoke/VarHandle" ∧ (parseMethodDescriptor yJ2_grow.desc).map (fun d => d.parameters.length) = some 0 := by decide +kernel
theorem hd_J2_grow : yJ2_grow.cls = "java/util/ArrayList" ∧ yJ2_grow.cls ≠ "java/lang/invoke/MethodHandle" ∧ yJ2_grow.cls ≠ "java/lang/invoke/VarHandle" ∧ (parseMethodDescriptor yJ2_grow.desc).map (fun d => d.parameters.length) = some 0 := ⟨rfl, hn_J2_grow⟩
abbrev rm_J2_grow : Room := { frames := 4, cells := 1, slots := 110, locals := 127 }
set_option maxHeartbeats 1000000 in
theorem cg_J2_grow (l : Launch) {G : zG} {H0 : Heap} {al ar cp : Nat} {mc n : Int} {el : Nat → Nat} (hL : zLst G H0 al ar mc n cp el) (hn : n = cp ∧ n ≤ 70) (hE : ∀ i : Nat, (i : Int) < n → zEl G H0 (el i)) : zM l yJ2_grow (ws_ yJ2_grow cJ2_grow 1 (some (.array (.object "java/lang/Object")))) rm_J2_grow G (zO1 al H0) [.ref al] H0 (fun r H1 => ∃ x, r = some (.ref x) ∧ (H0.size ≤ x ∧ ∃ c1 : Nat, n < c1 ∧ c1 ≤ 110 ∧ zO G H1 al 35 [.int (iI mc), .ref x, .int (iI n)] ∧ zAO G H1 x c1 (zEf n el))) (fun _ => False) := by
  refine z_enter (by decide +kernel) (Nat.le_of_ble_eq_true rfl) ?_
  intro p e s m args below meth c ls hx hb hret hml hown hts hlocks htab hnm hK hH hl
  subst hH
  have hAn : ∀ q, s.heap.size ≤ q → (zO1 al s.heap) q := fun _ h => Or.inr h
  have hS : va_S (zO1 al s.heap) s.heap s.heap [] := va_S.rf
  have hS0 := hS
  have hsz_0 : s.heap.size ≤ s.heap.size := Nat.le_refl _
  have hl : lv_has ls 1 [(0, .ref al)] := hl
  have hbd := hL.2.2.1
  have hcp := hL.2.2.2.1
  have hne := hL.2.2.2.2
  have hA_al : zO1 al s.heap al := Or.inl rfl
  refine lv_aload_n hx hb dJ2_grow_0 rfl (lv_at hl 0 rfl) ?_
  refine lv_aload_n hx hb dJ2_grow_1 rfl (lv_at hl 0 rfl) ?_
  refine z_get (k := 2) hx hb hts in_J2 hown hK hL.1 rfl (by decide) q133 rfl (v := .int (iI n)) rfl dJ2_grow_2 ?_
  refine lv_iconst (v := iI 1) hx hb dJ2_grow_5 rfl ?_
  refine z_iadd (x := n) (y := 1) hx hb dJ2_grow_6 ?_
  refine z_callX (vx_runV (As := [.int (iI (n + 1))]) (rest := []) ⟨hx, hb, hml, hown, hts⟩ (cg_J2_grow_2 l hL hn hE) (cwV 1 hts (lw_V q1077 q1079 qs5 q46 q1080) rfl rfl rfl hd_J2_grow_2 ⟨Nat.le_of_ble_eq_true rfl, Nat.le_of_ble_eq_true rfl⟩) (z_preV hK hS (zO1_le hA_al hAn hS) hL.1 rfl rfl) rfl rfl hl.1 rfl (lv_room (Nat.le_of_ble_eq_true rfl)) dJ2_grow_7 ⟨Nat.le_of_ble_eq_true rfl, Nat.le_of_ble_eq_true rfl⟩) hS (zO1_le hA_al hAn hS) (fun x_1 H_2 locs hp hz hk hS1 => ?_)
  obtain ⟨hp_3, c1_9, hp_4, hp_5, hp_6, hp_7⟩ := hp
  have hS := hS1
  have hS0 := hS
  have hsz_0 : s.heap.size ≤ H_2.size := hS.1
  have hA_x_1 := hAn x_1 (by omega)
  have hne_x_1 : al ≠ x_1 := by have := hL.1.lt; omega
  exact z_aret (r := some x_1) hx hb hret (Or.inr ⟨_, rfl⟩) hlocks hS ⟨_, rfl, by omega, c1_9, by omega, by omega, hp_6, hp_7⟩ (Nat.le_of_ble_eq_true rfl) (Nat.le_of_ble_eq_true rfl) dJ2_grow_10
def zAa (al ar : Nat) (n : Int) (cp : Nat) (H0 : Heap) : Nat → Prop := fun q => q = al ∨ (n < cp ∧ q = ar) ∨ H0.size ≤ q
theorem zAa_le {al ar cp : Nat} {n : Int} {H0 H : Heap} {locs : List Loc} {A : Nat → Prop} (h : A al) (h1 : n < cp → A ar) (hA : ∀ q, H0.size ≤ q → A q) (hS : va_S A H0 H locs) : ∀ q, zAa al ar n cp H q → A q := fun q hq => hq.elim (fun e => e ▸ h) (fun h2 => h2.elim (fun h3 => h3.2 ▸ h1 h3.1) (fun h3 => hA q (Nat.le_trans hS.1 h3)))
theorem hn_J2_add_2 : yJ2_add_2.cls ≠ "java/lang/invoke/MethodHandle" ∧ yJ2_add_2.cls ≠ "java/lang/invoke/VarHandle" ∧ (parseMethodDescriptor yJ2_add_2.desc).map (fun d => d.parameters.length) = some 3 := by decide +kernel
theorem hd_J2_add_2 : yJ2_add_2.cls = "java/util/ArrayList" ∧ yJ2_add_2.cls ≠ "java/lang/invoke/MethodHandle" ∧ yJ2_add_2.cls ≠ "java/lang/invoke/VarHandle" ∧ (parseMethodDescriptor yJ2_add_2.desc).map (fun d => d.parameters.length) = some 3 := ⟨rfl, hn_J2_add_2⟩
abbrev rm_J2_add_2 : Room := { frames := 5, cells := 1, slots := 110, locals := 147 }
set_option maxHeartbeats 1000000 in
theorem cg_J2_add_2 (l : Launch) {G : zG} {H0 : Heap} {al ar cp : Nat} {mc n : Int} {el : Nat → Nat} (hL : zLst G H0 al ar mc n cp el) {y : Nat} (hn : n ≤ 70) (hE : ∀ i : Nat, (i : Int) < n → zEl G H0 (el i)) (hy : zEl G H0 y) (hya : y ≠ al) : zM l yJ2_add_2 (ws_ yJ2_add_2 cJ2_add_2 4 none) rm_J2_add_2 G (zAa al ar n cp H0) [.ref al, .ref y, .ref ar, .int (iI n)] H0 (fun r H1 => r = none ∧ ∃ (a1 c1 : Nat), zLst G H1 al a1 mc (n + 1) c1 (fun i => if (i : Int) = n then y else el i) ∧ (a1 = ar ∧ c1 = cp ∧ n < cp ∨ H0.size ≤ a1) ∧ c1 ≤ max cp 110) (fun _ => False) := by
  refine z_enter (by decide +kernel) (Nat.le_of_ble_eq_true rfl) ?_
  intro p e s m args below meth c ls hx hb hret hml hown hts hlocks htab hnm hK hH hl
  subst hH
  have hAn : ∀ q, s.heap.size ≤ q → (zAa al ar n cp s.heap) q := fun _ h => Or.inr (Or.inr h)
  have hS : va_S (zAa al ar n cp s.heap) s.heap s.heap [] := va_S.rf
  have hS0 := hS
  have hsz_0 : s.heap.size ≤ s.heap.size := Nat.le_refl _
  have hl : lv_has ls 4 [(0, .ref al), (1, .ref y), (2, .ref ar), (3, .int (iI n))] := hl
  have hbd := hL.2.2.1
  have hcp := hL.2.2.2.1
  have hne := hL.2.2.2.2
  have hA_al : zAa al ar n cp s.heap al := Or.inl rfl
  have hA_ar : n < cp → zAa al ar n cp s.heap ar := fun h => Or.inr (Or.inl ⟨h, rfl⟩)
  have hlta : ar < s.heap.size := hL.2.1.lt
  have hy1 := hy
  refine lv_iload_n hx hb dJ2_add_2_0 rfl (lv_at hl 3 rfl) ?_
  refine lv_aload_n hx hb dJ2_add_2_1 rfl (lv_at hl 2 rfl) ?_
  refine z_alenA hx hb hK hL.2.1 dJ2_add_2_2 ?_
  refine z_icmp_ne (x := n) (y := ((cp : Nat) : Int)) (tgt := 11) hx hb (by first | with_reducible assumption | omega | exact ⟨by omega, by omega⟩) (by first | with_reducible assumption | omega | exact ⟨by omega, by omega⟩) dJ2_add_2_3 (by decide) (fun c_1 => ?_) (fun c_1 => ?_)
  · have hA_ar := hA_ar (by omega)
    refine lv_aload_n hx hb dJ2_add_2_11 rfl (lv_at hl 2 rfl) ?_
    refine lv_iload_n hx hb dJ2_add_2_12 rfl (lv_at hl 3 rfl) ?_
    refine lv_aload_n hx hb dJ2_add_2_13 rfl (lv_at hl 1 rfl) ?_
    refine z_ast (i := n) hx hb hK hL.2.1 hA_ar hS (z_anyEl hK hy1) (by omega) (by omega) (by omega) dJ2_add_2_14 (fun H_2 locs ho_3 hz_4 hk_5 hS1 => ?_)
    have hS := hS1
    have hf_6 := va_at.kept hL.1 (hk_5 _ hne)
    have hsz_7 : s.heap.size ≤ H_2.size := hS.1
    have hS0 := hS
    refine lv_aload_n hx hb dJ2_add_2_15 rfl (lv_at hl 0 rfl) ?_
    refine lv_iload_n hx hb dJ2_add_2_16 rfl (lv_at hl 3 rfl) ?_
    refine lv_iconst (v := iI 1) hx hb dJ2_add_2_17 rfl ?_
    refine z_iadd (x := n) (y := 1) hx hb dJ2_add_2_18 ?_
    refine z_put (v := .int (iI (n + 1))) hx hb hts in_J2 tyJ2 tyJ2_ok nmJ2 hown hK hf_6 hA_al hS rfl 2 (by decide) q133 rfl rfl rfl rfl (Nat.le_of_ble_eq_true rfl) dJ2_add_2_19 (fun H_8 locs ho_9 hz_10 hk_11 hS1 => ?_)
    have hS := hS1
    have hf_12 := va_at.kept ho_3 (hk_11 _ (Ne.symm hne))
    have hsz_13 : s.heap.size ≤ H_8.size := hS.1
    have hS0 := hS
    exact z_vret hx hb hret hlocks hS ⟨rfl, ar, cp, ⟨ho_9, (zEf_push (y := y) hbd.1 ▸ hf_12), ⟨by omega, by omega, by omega⟩, fun h => absurd h (by omega), by first | assumption | omega⟩, by first | (refine Or.inl ⟨rfl, rfl, by omega⟩) | exact Or.inr (by omega), by omega⟩ (Nat.le_of_ble_eq_true rfl) (Nat.le_of_ble_eq_true rfl) dJ2_add_2_22
  · refine lv_aload_n hx hb dJ2_add_2_6 rfl (lv_at hl 0 rfl) ?_
    refine z_callX (vx_runV (As := []) (rest := []) ⟨hx, hb, hml, hown, hts⟩ (cg_J2_grow l hL ⟨by omega, hn⟩ hE) (cwV 0 hts (lw_V q1073 q1075 qs4 q46 q1076) rfl rfl rfl hd_J2_grow ⟨Nat.le_of_ble_eq_true rfl, Nat.le_of_ble_eq_true rfl⟩) (z_preV hK hS (zO1_le hA_al hAn hS) hL.1 rfl rfl) rfl rfl hl.1 rfl (lv_room (Nat.le_of_ble_eq_true rfl)) dJ2_add_2_7 ⟨Nat.le_of_ble_eq_true rfl, Nat.le_of_ble_eq_true rfl⟩) hS (zO1_le hA_al hAn hS) (fun x_14 H_15 locs hp hz hk hS1 => ?_)
    obtain ⟨hp_16, c1_22, hp_17, hp_18, hp_19, hp_20⟩ := hp
    have hS := hS1
    have hS0 := hS
    have hsz_0 : s.heap.size ≤ H_15.size := hS.1
    have hA_x_14 := hAn x_14 (by omega)
    have hne_x_14 : al ≠ x_14 := by have := hL.1.lt; omega
    have hy1 : zEl G H_15 y := hy.kept (hk _ hy.lt (fun q => q.elim hya (fun q => absurd hy.lt (Nat.not_lt.mpr q))))
    refine lv_astore_n (lv' := [(2, .ref x_14), (0, .ref al), (1, .ref y), (3, .int (iI n))]) hx hb dJ2_add_2_10 rfl hl (by decide) rfl (fun ls hl => ?_)
    refine lv_aload_n hx hb dJ2_add_2_11 rfl (lv_at hl 0 rfl) ?_
    refine lv_iload_n hx hb dJ2_add_2_12 rfl (lv_at hl 3 rfl) ?_
    refine lv_aload_n hx hb dJ2_add_2_13 rfl (lv_at hl 2 rfl) ?_
    refine z_ast (i := n) hx hb hK hp_20 hA_x_14 hS (z_anyEl hK hy1) (by omega) (by omega) (by omega) dJ2_add_2_14 (fun H_23 locs ho_24 hz_25 hk_26 hS1 => ?_)
    have hS := hS1
    have hf_27 := va_at.kept hp_19 (hk_26 _ hne_x_14)
    have hsz_28 : s.heap.size ≤ H_23.size := hS.1
    have hS0 := hS
    refine lv_aload_n hx hb dJ2_add_2_15 rfl (lv_at hl 1 rfl) ?_
    refine lv_iload_n hx hb dJ2_add_2_16 rfl (lv_at hl 3 rfl) ?_
    refine lv_iconst (v := iI 1) hx hb dJ2_add_2_17 rfl ?_
    refine z_iadd (x := n) (y := 1) hx hb dJ2_add_2_18 ?_
    refine z_put (v := .int (iI (n + 1))) hx hb hts in_J2 tyJ2 tyJ2_ok nmJ2 hown hK hf_27 hA_al hS rfl 2 (by decide) q133 rfl rfl rfl rfl (Nat.le_of_ble_eq_true rfl) dJ2_add_2_19 (fun H_29 locs ho_30 hz_31 hk_32 hS1 => ?_)
    have hS := hS1
    have hf_33 := va_at.kept ho_24 (hk_32 _ (Ne.symm hne_x_14))
    have hsz_34 : s.heap.size ≤ H_29.size := hS.1
    have hS0 := hS
    exact z_vret hx hb hret hlocks hS ⟨rfl, x_14, c1_22, ⟨ho_30, (zEf_push (y := y) hbd.1 ▸ hf_33), ⟨by omega, by omega, by omega⟩, fun h => absurd h (by omega), by first | assumption | omega⟩, by first | (refine Or.inl ⟨rfl, rfl, by omega⟩) | exact Or.inr (by omega), by omega⟩ (Nat.le_of_ble_eq_true rfl) (Nat.le_of_ble_eq_true rfl) dJ2_add_2_22
theorem hn_J2_add : yJ2_add.cls ≠ "java/lang/invoke/MethodHandle" ∧ yJ2_add.cls ≠ "java/lang/invoke/VarHandle" ∧ (parseMethodDescriptor yJ2_add.desc).map (fun d => d.parameters.length) = some 1 := by decide +kernel
theorem hd_J2_add : yJ2_add.cls = "java/util/ArrayList" ∧ yJ2_add.cls ≠ "java/lang/invoke/MethodHandle" ∧ yJ2_add.cls ≠ "java/lang/invoke/VarHandle" ∧ (parseMethodDescriptor yJ2_add.desc).map (fun d => d.parameters.length) = some 1 := ⟨rfl, hn_J2_add⟩
abbrev rm_J2_add : Room := { frames := 6, cells := 1, slots := 110, locals := 170 }
set_option maxHeartbeats 1000000 in
theorem cg_J2_add (l : Launch) {G : zG} {H0 : Heap} {al ar cp : Nat} {mc n : Int} {el : Nat → Nat} (hL : zLst G H0 al ar mc n cp el) {y : Nat} (hn : n ≤ 70) (hE : ∀ i : Nat, (i : Int) < n → zEl G H0 (el i)) (hy : zEl G H0 y) (hya : y ≠ al) (hEa : ∀ i : Nat, (i : Int) < n → el i ≠ al) : zM l yJ2_add (ws_ yJ2_add cJ2_add 2 (some .boolean)) rm_J2_add G (zAa al ar n cp H0) [.ref al, .ref y] H0 (fun r H1 => r = some (.int (iI 1)) ∧ ∃ (a1 c1 : Nat), zLst G H1 al a1 (mc + 1) (n + 1) c1 (fun i => if (i : Int) = n then y else el i) ∧ (a1 = ar ∧ c1 = cp ∧ n < cp ∨ H0.size ≤ a1) ∧ c1 ≤ max cp 110) (fun _ => False) := by
  refine z_enter (by decide +kernel) (Nat.le_of_ble_eq_true rfl) ?_
  intro p e s m args below meth c ls hx hb hret hml hown hts hlocks htab hnm hK hH hl
  subst hH
  have hAn : ∀ q, s.heap.size ≤ q → (zAa al ar n cp s.heap) q := fun _ h => Or.inr (Or.inr h)
  have hS : va_S (zAa al ar n cp s.heap) s.heap s.heap [] := va_S.rf
  have hS0 := hS
  have hsz_0 : s.heap.size ≤ s.heap.size := Nat.le_refl _
  have hl : lv_has ls 2 [(0, .ref al), (1, .ref y)] := hl
  have hbd := hL.2.2.1
  have hcp := hL.2.2.2.1
  have hne := hL.2.2.2.2
  have hA_al : zAa al ar n cp s.heap al := Or.inl rfl
  have hA_ar : n < cp → zAa al ar n cp s.heap ar := fun h => Or.inr (Or.inl ⟨h, rfl⟩)
  have hlta : ar < s.heap.size := hL.2.1.lt
  have hne := hL.2.2.2.2
  refine lv_aload_n hx hb dJ2_add_0 rfl (lv_at hl 0 rfl) ?_
  refine lv_dup hx hb dJ2_add_1 rfl ?_
  refine z_getS (k := 0) hx hb hts in_J2 hown hK hL.1 rfl (by decide) q135 q136 (v := .int (iI mc)) rfl dJ2_add_2 ?_
  refine lv_iconst (v := iI 1) hx hb dJ2_add_5 rfl ?_
  refine z_iadd (x := mc) (y := 1) hx hb dJ2_add_6 ?_
  refine z_putS (v := .int (iI (mc + 1))) hx hb hts in_J2 tyJ2 tyJ2_ok nmJ2 hown hK hL.1 hA_al hS rfl 0 (by decide) q135 q136 rfl rfl rfl (Nat.le_of_ble_eq_true rfl) dJ2_add_7 (fun H_1 locs ho_2 hz_3 hk_4 hS1 => ?_)
  have hS := hS1
  have hf_5 := va_at.kept hL.2.1 (hk_4 _ (Ne.symm hne))
  have hsz_6 : s.heap.size ≤ H_1.size := hS.1
  have hS0 := hS
  refine lv_aload_n hx hb dJ2_add_10 rfl (lv_at hl 0 rfl) ?_
  refine lv_aload_n hx hb dJ2_add_11 rfl (lv_at hl 1 rfl) ?_
  refine lv_aload_n hx hb dJ2_add_12 rfl (lv_at hl 0 rfl) ?_
  refine z_get (k := 1) hx hb hts in_J2 hown hK ho_2 rfl (by decide) q132 rfl (v := .ref ar) rfl dJ2_add_13 ?_
  refine lv_aload_n hx hb dJ2_add_16 rfl (lv_at hl 0 rfl) ?_
  refine z_get (k := 2) hx hb hts in_J2 hown hK ho_2 rfl (by decide) q133 rfl (v := .int (iI n)) rfl dJ2_add_17 ?_
  have hput_ := hk_4
  refine z_callV (vx_runV (As := [.ref y, .ref ar, .int (iI n)]) (rest := []) ⟨hx, hb, hml, hown, hts⟩ (cg_J2_add_2 l ⟨ho_2, hf_5, hL.2.2⟩ hn (fun i hi => (hE i hi).kept (hput_ _ (hEa i hi))) (hy.kept (hput_ _ hya)) hya) (cwV 3 hts (lw_V q1069 q1071 qs3 q46 q1072) rfl rfl rfl hd_J2_add_2 ⟨Nat.le_of_ble_eq_true rfl, Nat.le_of_ble_eq_true rfl⟩) (z_preV hK hS (zAa_le hA_al hA_ar hAn hS) ho_2 rfl rfl) rfl rfl hl.1 rfl (lv_room (Nat.le_of_ble_eq_true rfl)) dJ2_add_20 ⟨Nat.le_of_ble_eq_true rfl, Nat.le_of_ble_eq_true rfl⟩) hS (zAa_le hA_al hA_ar hAn hS) (fun H9 locs hp _ _ hS1 => ?_)
  obtain ⟨a1, c1, hp1, hp2, hp3⟩ := hp
  have hS := hS1
  refine lv_iconst (v := iI 1) hx hb dJ2_add_23 rfl ?_
  exact z_iret hx hb hret rfl hlocks hS ⟨rfl, a1, c1, hp1, (by rcases hp2 with h | h; exact Or.inl h; exact Or.inr (by omega)), hp3⟩ (Nat.le_of_ble_eq_true rfl) (Nat.le_of_ble_eq_true rfl) dJ2_add_24
theorem zEf_rem {n i : Int} {el : Nat → Nat} (h : 0 ≤ i ∧ i < n) : va_up (va_cpy (zEf n el) (zEf n el) (i + 1).toNat i.toNat (n - 1 - i).toNat) (n - 1).toNat none = zEf (n - 1) (fun j => if (j : Int) < i then el j else el (j + 1)) := by
  funext k
  unfold va_up va_cpy zEf
  by_cases h1 : k = (n - 1).toNat
  · rw [if_pos h1, if_neg (by omega)]
  · rw [if_neg h1]
    by_cases h2 : (k : Int) < i
    · rw [if_neg (by omega), if_pos (by omega), if_pos (by omega)]; exact congrArg some (if_pos h2).symm
    · by_cases h3 : (k : Int) < n - 1
      · rw [if_pos (by omega), if_pos (by omega), if_pos (by omega)]
        refine congrArg some (Eq.trans ?_ (if_neg h2).symm)
        congr 1
        omega
      · rw [if_neg (by omega), if_neg (by omega), if_neg (by omega)]
theorem zEf_rem0 {n i : Int} {el : Nat → Nat} (h : 0 ≤ i ∧ i < n) (h1 : ¬ i < n - 1) : va_up (zEf n el) (n - 1).toNat none = zEf (n - 1) (fun j => if (j : Int) < i then el j else el (j + 1)) := by
  funext k
  unfold va_up zEf
  by_cases h1 : k = (n - 1).toNat
  · rw [if_pos h1, if_neg (by omega)]
  · rw [if_neg h1]
    by_cases h2 : (k : Int) < i
    · rw [if_pos (by omega), if_pos (by omega)]; exact congrArg some (if_pos h2).symm
    · rw [if_neg (by omega), if_neg (by omega)]
theorem zEf_some {n : Int} {el : Nat → Nat} {k y : Nat} (h : zEf n el k = some y) : (k : Int) < n ∧ y = el k := by
  unfold zEf at h
  split at h
  · exact ⟨by assumption, (Option.some.inj h).symm⟩
  · cases h
theorem hn_J2_fastRemove : yJ2_fastRemove.cls ≠ "java/lang/invoke/MethodHandle" ∧ yJ2_fastRemove.cls ≠ "java/lang/invoke/VarHandle" ∧ (parseMethodDescriptor yJ2_fastRemove.desc).map (fun d => d.parameters.length) = some 2 := by decide +kernel
theorem hd_J2_fastRemove : yJ2_fastRemove.cls = "java/util/ArrayList" ∧ yJ2_fastRemove.cls ≠ "java/lang/invoke/MethodHandle" ∧ yJ2_fastRemove.cls ≠ "java/lang/invoke/VarHandle" ∧ (parseMethodDescriptor yJ2_fastRemove.desc).map (fun d => d.parameters.length) = some 2 := ⟨rfl, hn_J2_fastRemove⟩
abbrev rm_J2_fastRemove : Room := { frames := 1, cells := 0, slots := 0, locals := 60 }
set_option maxHeartbeats 1000000 in
theorem cg_J2_fastRemove (l : Launch) {G : zG} {H0 : Heap} {al ar cp : Nat} {mc n : Int} {el : Nat → Nat} (hL : zLst G H0 al ar mc n cp el) {i0 : Int} (hi : 0 ≤ i0 ∧ i0 < n) (hE : ∀ i : Nat, (i : Int) < n → zEl G H0 (el i)) (hEa : ∀ i : Nat, (i : Int) < n → el i ≠ al) : zM l yJ2_fastRemove (ws_ yJ2_fastRemove cJ2_fastRemove 4 none) rm_J2_fastRemove G (zAa al ar 0 cp H0) [.ref al, .ref ar, .int (iI i0)] H0 (fun r H1 => r = none ∧ zLst G H1 al ar (mc + 1) (n - 1) cp (fun j => if (j : Int) < i0 then el j else el (j + 1))) (fun _ => False) := by
  refine z_enter (by decide +kernel) (Nat.le_of_ble_eq_true rfl) ?_
  intro p e s m args below meth c ls hx hb hret hml hown hts hlocks htab hnm hK hH hl
  subst hH
  have hAn : ∀ q, s.heap.size ≤ q → (zAa al ar 0 cp s.heap) q := fun _ h => Or.inr (Or.inr h)
  have hS : va_S (zAa al ar 0 cp s.heap) s.heap s.heap [] := va_S.rf
  have hS0 := hS
  have hsz_0 : s.heap.size ≤ s.heap.size := Nat.le_refl _
  have hl : lv_has ls 4 [(0, .ref al), (1, .ref ar), (2, .int (iI i0))] := hl
  have hbd := hL.2.2.1
  have hcp := hL.2.2.2.1
  have hne := hL.2.2.2.2
  have hA_al : zAa al ar 0 cp s.heap al := Or.inl rfl
  have hA_ar : (0 : Int) < cp → zAa al ar 0 cp s.heap ar := fun h => Or.inr (Or.inl ⟨h, rfl⟩)
  have hA_ar := hA_ar (by omega)
  refine lv_aload_n hx hb dJ2_fastRemove_0 rfl (lv_at hl 0 rfl) ?_
  refine lv_dup hx hb dJ2_fastRemove_1 rfl ?_
  refine z_getS (k := 0) hx hb hts in_J2 hown hK hL.1 rfl (by decide) q135 q136 (v := .int (iI mc)) rfl dJ2_fastRemove_2 ?_
  refine lv_iconst (v := iI 1) hx hb dJ2_fastRemove_5 rfl ?_
  refine z_iadd (x := mc) (y := 1) hx hb dJ2_fastRemove_6 ?_
  refine z_putS (v := .int (iI (mc + 1))) hx hb hts in_J2 tyJ2 tyJ2_ok nmJ2 hown hK hL.1 hA_al hS rfl 0 (by decide) q135 q136 rfl rfl rfl (Nat.le_of_ble_eq_true rfl) dJ2_fastRemove_7 (fun H_1 locs ho_2 hz_3 hk_4 hS1 => ?_)
  have hS := hS1
  have hf_5 := va_at.kept hL.2.1 (hk_4 _ (Ne.symm hne))
  have hsz_6 : s.heap.size ≤ H_1.size := hS.1
  have hS0 := hS
  refine lv_aload_n hx hb dJ2_fastRemove_10 rfl (lv_at hl 0 rfl) ?_
  refine z_get (k := 2) hx hb hts in_J2 hown hK ho_2 rfl (by decide) q133 rfl (v := .int (iI n)) rfl dJ2_fastRemove_11 ?_
  refine lv_iconst (v := iI 1) hx hb dJ2_fastRemove_14 rfl ?_
  refine z_isub (x := n) (y := 1) hx hb dJ2_fastRemove_15 ?_
  refine lv_dup hx hb dJ2_fastRemove_16 rfl ?_
  refine lv_istore_n (lv' := [(3, .int (iI (n - 1))), (0, .ref al), (1, .ref ar), (2, .int (iI i0))]) hx hb dJ2_fastRemove_17 rfl hl (by decide) rfl (fun ls hl => ?_)
  refine lv_iload_n hx hb dJ2_fastRemove_18 rfl (lv_at hl 3 rfl) ?_
  refine z_icmp_le (x := n - 1) (y := i0) (tgt := 34) hx hb (by first | with_reducible assumption | omega | exact ⟨by omega, by omega⟩) (by first | with_reducible assumption | omega | exact ⟨by omega, by omega⟩) dJ2_fastRemove_19 (by decide) (fun c_7 => ?_) (fun c_7 => ?_)
  · refine lv_aload_n hx hb dJ2_fastRemove_34 rfl (lv_at hl 2 rfl) ?_
    refine lv_aload_n hx hb dJ2_fastRemove_35 rfl (lv_at hl 1 rfl) ?_
    refine lv_iload_n hx hb dJ2_fastRemove_36 rfl (lv_at hl 0 rfl) ?_
    refine lv_dup_x1 hx hb dJ2_fastRemove_37 rfl rfl ?_
    refine z_put (v := .int (iI (n - 1))) hx hb hts in_J2 tyJ2 tyJ2_ok nmJ2 hown hK ho_2 hA_al hS rfl 2 (by decide) q133 rfl rfl rfl rfl (Nat.le_of_ble_eq_true rfl) dJ2_fastRemove_38 (fun H_8 locs ho_9 hz_10 hk_11 hS1 => ?_)
    have hS := hS1
    have hf_12 := va_at.kept hf_5 (hk_11 _ (Ne.symm hne))
    have hsz_13 : s.heap.size ≤ H_8.size := hS.1
    have hS0 := hS
    refine lv_null hx hb dJ2_fastRemove_41 ?_
    refine z_astN (i := n - 1) hx hb hK hf_12 hA_ar hS (by omega) (by omega) (by omega) dJ2_fastRemove_42 (fun H_14 locs ho_15 hz_16 hk_17 hS1 => ?_)
    have hS := hS1
    have hf_18 := va_at.kept ho_9 (hk_17 _ hne)
    have hsz_19 : s.heap.size ≤ H_14.size := hS.1
    have hS0 := hS
    exact z_vret hx hb hret hlocks hS ⟨rfl, ⟨hf_18, (zEf_rem0 (el := el) hi (by omega) ▸ ho_15), ⟨by omega, by omega, by omega⟩, hcp, hne⟩⟩ (Nat.le_of_ble_eq_true rfl) (Nat.le_of_ble_eq_true rfl) dJ2_fastRemove_43
  · refine lv_aload_n hx hb dJ2_fastRemove_22 rfl (lv_at hl 2 rfl) ?_
    refine lv_iload_n hx hb dJ2_fastRemove_23 rfl (lv_at hl 3 rfl) ?_
    refine lv_iconst (v := iI 1) hx hb dJ2_fastRemove_24 rfl ?_
    refine z_iadd (x := i0) (y := 1) hx hb dJ2_fastRemove_25 ?_
    refine lv_aload_n hx hb dJ2_fastRemove_26 rfl (lv_at hl 2 rfl) ?_
    refine lv_iload_n hx hb dJ2_fastRemove_27 rfl (lv_at hl 3 rfl) ?_
    refine lv_iload_n hx hb dJ2_fastRemove_28 rfl (lv_at hl 0 rfl) ?_
    refine lv_iload_n hx hb dJ2_fastRemove_29 rfl (lv_at hl 3 rfl) ?_
    refine z_isub (x := n - 1) (y := i0) hx hb dJ2_fastRemove_30 ?_
    refine z_copyA (n := n - 1 - i0) (sp := i0 + 1) (dp := i0) hx hb (hl.1.trans hml.symm) hts hown q1321 hK hS hA_ar hf_5 hf_5 (by omega) (by omega) (by omega) (by omega) (by omega) (by omega) (by omega) (fun i hi9 y hy9 => by obtain ⟨h8, rfl⟩ := zEf_some hy9; exact z_anyEl hK ((hE _ h8).kept (hk_4 _ (hEa _ h8)))) (Nat.le_of_ble_eq_true rfl) (Nat.le_of_ble_eq_true rfl) dJ2_fastRemove_31 (fun H9 locs9 ho9 hz9 hk9 hS1 => ?_)
    have hS := hS1
    have hS0 := hS
    have ho8 := va_at.kept ho_2 (hk9 _ hne)
    refine lv_aload_n hx hb dJ2_fastRemove_34 rfl (lv_at hl 2 rfl) ?_
    refine lv_aload_n hx hb dJ2_fastRemove_35 rfl (lv_at hl 1 rfl) ?_
    refine lv_iload_n hx hb dJ2_fastRemove_36 rfl (lv_at hl 0 rfl) ?_
    refine lv_dup_x1 hx hb dJ2_fastRemove_37 rfl rfl ?_
    refine z_put (v := .int (iI (n - 1))) hx hb hts in_J2 tyJ2 tyJ2_ok nmJ2 hown hK ho8 hA_al hS rfl 2 (by decide) q133 rfl rfl rfl rfl (Nat.le_of_ble_eq_true rfl) dJ2_fastRemove_38 (fun H_20 locs ho_21 hz_22 hk_23 hS1 => ?_)
    have hS := hS1
    have hf_24 := va_at.kept ho9 (hk_23 _ (Ne.symm hne))
    have hsz_25 : s.heap.size ≤ H_20.size := hS.1
    have hS0 := hS
    refine lv_null hx hb dJ2_fastRemove_41 ?_
    refine z_astN (i := n - 1) hx hb hK hf_24 hA_ar hS (by omega) (by omega) (by omega) dJ2_fastRemove_42 (fun H_26 locs ho_27 hz_28 hk_29 hS1 => ?_)
    have hS := hS1
    have hf_30 := va_at.kept ho_21 (hk_29 _ hne)
    have hsz_31 : s.heap.size ≤ H_26.size := hS.1
    have hS0 := hS
    exact z_vret hx hb hret hlocks hS ⟨rfl, ⟨hf_30, (zEf_rem (el := el) hi ▸ ho_27), ⟨by omega, by omega, by omega⟩, hcp, hne⟩⟩ (Nat.le_of_ble_eq_true rfl) (Nat.le_of_ble_eq_true rfl) dJ2_fastRemove_43
theorem hn_J2_remove : yJ2_remove.cls ≠ "java/lang/invoke/MethodHandle" ∧ yJ2_remove.cls ≠ "java/lang/invoke/VarHandle" ∧ (parseMethodDescriptor yJ2_remove.desc).map (fun d => d.parameters.length) = some 1 := by decide +kernel
theorem hd_J2_remove : yJ2_remove.cls = "java/util/ArrayList" ∧ yJ2_remove.cls ≠ "java/lang/invoke/MethodHandle" ∧ yJ2_remove.cls ≠ "java/lang/invoke/VarHandle" ∧ (parseMethodDescriptor yJ2_remove.desc).map (fun d => d.parameters.length) = some 1 := ⟨rfl, hn_J2_remove⟩
abbrev rm_J2_remove : Room := { frames := 3, cells := 0, slots := 0, locals := 83 }
set_option maxHeartbeats 1000000 in
theorem cg_J2_remove (l : Launch) {G : zG} {H0 : Heap} {al ar cp : Nat} {mc n : Int} {el : Nat → Nat} (hL : zLst G H0 al ar mc n cp el) {i0 : Int} (hi : 0 ≤ i0 ∧ i0 < n) (hE : ∀ i : Nat, (i : Int) < n → zEl G H0 (el i)) (hEa : ∀ i : Nat, (i : Int) < n → el i ≠ al) : zM l yJ2_remove (ws_ yJ2_remove cJ2_remove 4 (some (.object "java/lang/Object"))) rm_J2_remove G (zAa al ar 0 cp H0) [.ref al, .int (iI i0)] H0 (fun r H1 => r = some (.ref (el i0.toNat)) ∧ zLst G H1 al ar (mc + 1) (n - 1) cp (fun j => if (j : Int) < i0 then el j else el (j + 1))) (fun _ => False) := by
  refine z_enter (by decide +kernel) (Nat.le_of_ble_eq_true rfl) ?_
  intro p e s m args below meth c ls hx hb hret hml hown hts hlocks htab hnm hK hH hl
  subst hH
  have hAn : ∀ q, s.heap.size ≤ q → (zAa al ar 0 cp s.heap) q := fun _ h => Or.inr (Or.inr h)
  have hS : va_S (zAa al ar 0 cp s.heap) s.heap s.heap [] := va_S.rf
  have hS0 := hS
  have hsz_0 : s.heap.size ≤ s.heap.size := Nat.le_refl _
  have hl : lv_has ls 4 [(0, .ref al), (1, .int (iI i0))] := hl
  have hbd := hL.2.2.1
  have hcp := hL.2.2.2.1
  have hne := hL.2.2.2.2
  have hA_al : zAa al ar 0 cp s.heap al := Or.inl rfl
  have hA_ar : (0 : Int) < cp → zAa al ar 0 cp s.heap ar := fun h => Or.inr (Or.inl ⟨h, rfl⟩)
  refine lv_iload_n hx hb dJ2_remove_0 rfl (lv_at hl 1 rfl) ?_
  refine lv_aload_n hx hb dJ2_remove_1 rfl (lv_at hl 0 rfl) ?_
  refine z_get (k := 2) hx hb hts in_J2 hown hK hL.1 rfl (by decide) q133 rfl (v := .int (iI n)) rfl dJ2_remove_2 ?_
  refine z_callp (vx_runS (As := [.int (iI i0), .int (iI n)]) (rest := []) ⟨hx, hb, hml, hown, hts⟩ (cg_J9_checkIndex l (i0 := i0) (n0 := n) (by first | with_reducible assumption | omega | exact ⟨by omega, by omega⟩) (by first | with_reducible assumption | omega | exact ⟨by omega, by omega⟩)) (va_cwS 2 hts (lw_S q258 q259 q57 q260) rfl rfl rfl hn_J9_checkIndex ⟨Nat.le_of_ble_eq_true rfl, Nat.le_of_ble_eq_true rfl⟩) (z_preS hK hS (zN_le hAn hS)) rfl rfl hl.1 rfl (lv_room (Nat.le_of_ble_eq_true rfl)) dJ2_remove_5 ⟨Nat.le_of_ble_eq_true rfl, Nat.le_of_ble_eq_true rfl⟩) hS (zN_le hAn hS) rfl rfl (fun locs hS => ?_)
  refine lv_pop hx hb dJ2_remove_8 rfl ?_
  refine lv_aload_n hx hb dJ2_remove_9 rfl (lv_at hl 0 rfl) ?_
  refine z_get (k := 1) hx hb hts in_J2 hown hK hL.1 rfl (by decide) q132 rfl (v := .ref ar) rfl dJ2_remove_10 ?_
  refine lv_astore_n (lv' := [(2, .ref ar), (0, .ref al), (1, .int (iI i0))]) hx hb dJ2_remove_13 rfl hl (by decide) rfl (fun ls hl => ?_)
  refine lv_aload_n hx hb dJ2_remove_14 rfl (lv_at hl 0 rfl) ?_
  refine lv_iload_n hx hb dJ2_remove_15 rfl (lv_at hl 2 rfl) ?_
  refine z_aldL (i := i0) hx hb hK hL.2.1 ⟨by omega, by omega⟩ (by omega) (by omega) dJ2_remove_16 ?_
  refine lv_astore_n (lv' := [(3, .ref (el (i0).toNat)), (2, .ref ar), (0, .ref al), (1, .int (iI i0))]) hx hb dJ2_remove_17 rfl hl (by decide) rfl (fun ls hl => ?_)
  refine lv_aload_n hx hb dJ2_remove_18 rfl (lv_at hl 2 rfl) ?_
  refine lv_aload_n hx hb dJ2_remove_19 rfl (lv_at hl 1 rfl) ?_
  refine lv_iload_n hx hb dJ2_remove_20 rfl (lv_at hl 3 rfl) ?_
  refine z_callV (vx_runV (As := [.ref ar, .int (iI i0)]) (rest := []) ⟨hx, hb, hml, hown, hts⟩ (cg_J2_fastRemove l hL hi hE hEa) (cwV 2 hts (lw_V q1317 q1319 qs6 q46 q1320) rfl rfl rfl hd_J2_fastRemove ⟨Nat.le_of_ble_eq_true rfl, Nat.le_of_ble_eq_true rfl⟩) (z_preV hK hS (zAa_le hA_al hA_ar hAn hS) hL.1 rfl rfl) rfl rfl hl.1 rfl (lv_room (Nat.le_of_ble_eq_true rfl)) dJ2_remove_21 ⟨Nat.le_of_ble_eq_true rfl, Nat.le_of_ble_eq_true rfl⟩) hS (zAa_le hA_al hA_ar hAn hS) (fun H9 locs hp _ _ hS1 => ?_)
  have hS := hS1
  refine lv_aload_n hx hb dJ2_remove_24 rfl (lv_at hl 0 rfl) ?_
  exact z_aret (r := some (el (i0).toNat)) hx hb hret (Or.inl ⟨_, rfl⟩) hlocks hS ⟨rfl, hp⟩ (Nat.le_of_ble_eq_true rfl) (Nat.le_of_ble_eq_true rfl) dJ2_remove_25
theorem zclr_up {n : Int} {el : Nat → Nat} {i : Nat} : va_up (fun k => if k < i then none else zEf n el k) ((i : Nat) : Int).toNat none = (fun k => if k < i + 1 then none else zEf n el k) := by
  funext k
  unfold va_up
  by_cases h : k = i
  · rw [if_pos (by omega), if_pos (by omega)]
  · rw [if_neg (by omega)]
    by_cases h2 : k < i
    · exact (if_pos h2).trans (if_pos (by omega)).symm
    · exact (if_neg h2).trans (if_neg (by omega)).symm
theorem hn_J2_clear : yJ2_clear.cls ≠ "java/lang/invoke/MethodHandle" ∧ yJ2_clear.cls ≠ "java/lang/invoke/VarHandle" ∧ (parseMethodDescriptor yJ2_clear.desc).map (fun d => d.parameters.length) = some 0 := by decide +kernel
theorem hd_J2_clear : yJ2_clear.cls = "java/util/ArrayList" ∧ yJ2_clear.cls ≠ "java/lang/invoke/MethodHandle" ∧ yJ2_clear.cls ≠ "java/lang/invoke/VarHandle" ∧ (parseMethodDescriptor yJ2_clear.desc).map (fun d => d.parameters.length) = some 0 := ⟨rfl, hn_J2_clear⟩
abbrev rm_J2_clear : Room := { frames := 1, cells := 0, slots := 0, locals := 60 }
set_option maxHeartbeats 1000000 in
theorem cg_J2_clear (l : Launch) {G : zG} {H0 : Heap} {al ar cp : Nat} {mc n : Int} {el : Nat → Nat} (hL : zLst G H0 al ar mc n cp el) (hcl : n ≤ 1000) : zM l yJ2_clear (ws_ yJ2_clear cJ2_clear 4 none) rm_J2_clear G (zAa al ar 0 cp H0) [.ref al] H0 (fun r H1 => r = none ∧ zLst G H1 al ar (mc + 1) 0 cp el) (fun _ => False) := by
  refine z_enter (by decide +kernel) (Nat.le_of_ble_eq_true rfl) ?_
  intro p e s m args below meth c ls hx hb hret hml hown hts hlocks htab hnm hK hH hl
  subst hH
  have hAn : ∀ q, s.heap.size ≤ q → (zAa al ar 0 cp s.heap) q := fun _ h => Or.inr (Or.inr h)
  have hS : va_S (zAa al ar 0 cp s.heap) s.heap s.heap [] := va_S.rf
  have hS0 := hS
  have hsz_0 : s.heap.size ≤ s.heap.size := Nat.le_refl _
  have hl : lv_has ls 4 [(0, .ref al)] := hl
  have hbd := hL.2.2.1
  have hcp := hL.2.2.2.1
  have hne := hL.2.2.2.2
  have hA_al : zAa al ar 0 cp s.heap al := Or.inl rfl
  have hA_ar : (0 : Int) < cp → zAa al ar 0 cp s.heap ar := fun h => Or.inr (Or.inl ⟨h, rfl⟩)
  refine lv_aload_n hx hb dJ2_clear_0 rfl (lv_at hl 0 rfl) ?_
  refine lv_dup hx hb dJ2_clear_1 rfl ?_
  refine z_getS (k := 0) hx hb hts in_J2 hown hK hL.1 rfl (by decide) q135 q136 (v := .int (iI mc)) rfl dJ2_clear_2 ?_
  refine lv_iconst (v := iI 1) hx hb dJ2_clear_5 rfl ?_
  refine z_iadd (x := mc) (y := 1) hx hb dJ2_clear_6 ?_
  refine z_putS (v := .int (iI (mc + 1))) hx hb hts in_J2 tyJ2 tyJ2_ok nmJ2 hown hK hL.1 hA_al hS rfl 0 (by decide) q135 q136 rfl rfl rfl (Nat.le_of_ble_eq_true rfl) dJ2_clear_7 (fun H_1 locs ho_2 hz_3 hk_4 hS1 => ?_)
  have hS := hS1
  have hf_5 := va_at.kept hL.2.1 (hk_4 _ (Ne.symm hne))
  have hsz_6 : s.heap.size ≤ H_1.size := hS.1
  have hS0 := hS
  refine lv_aload_n hx hb dJ2_clear_10 rfl (lv_at hl 0 rfl) ?_
  refine z_get (k := 1) hx hb hts in_J2 hown hK ho_2 rfl (by decide) q132 rfl (v := .ref ar) rfl dJ2_clear_11 ?_
  refine lv_astore_n (lv' := [(1, .ref ar), (0, .ref al)]) hx hb dJ2_clear_14 rfl hl (by decide) rfl (fun ls hl => ?_)
  refine lv_aload_n hx hb dJ2_clear_15 rfl (lv_at hl 1 rfl) ?_
  refine z_get (k := 2) hx hb hts in_J2 hown hK ho_2 rfl (by decide) q133 rfl (v := .int (iI n)) rfl dJ2_clear_16 ?_
  refine lv_istore_n (lv' := [(2, .int (iI n)), (1, .ref ar), (0, .ref al)]) hx hb dJ2_clear_19 rfl hl (by decide) rfl (fun ls hl => ?_)
  refine lv_aload_n hx hb dJ2_clear_20 rfl (lv_at hl 2 rfl) ?_
  refine lv_iconst (v := iI 0) hx hb dJ2_clear_21 rfl ?_
  refine lv_dup_x1 hx hb dJ2_clear_22 rfl rfl ?_
  refine z_put (v := .int (iI 0)) hx hb hts in_J2 tyJ2 tyJ2_ok nmJ2 hown hK ho_2 hA_al hS rfl 2 (by decide) q133 rfl rfl rfl rfl (Nat.le_of_ble_eq_true rfl) dJ2_clear_23 (fun H_7 locs ho_8 hz_9 hk_10 hS1 => ?_)
  have hS := hS1
  have hf_11 := va_at.kept hf_5 (hk_10 _ (Ne.symm hne))
  have hsz_12 : s.heap.size ≤ H_7.size := hS.1
  have hS0 := hS
  refine lv_istore_n (lv' := [(3, .int (iI 0)), (2, .int (iI n)), (1, .ref ar), (0, .ref al)]) hx hb dJ2_clear_26 rfl hl (by decide) rfl (fun ls hl => ?_)
  refine z_loopH (nL := 4) (hd := 27) (fun i : Nat => [(3, .int (iI ((i : Nat) : Int))), (2, .int (iI n)), (1, .ref ar), (0, .ref al)]) (fun (i : Nat) (H : Heap) => (i : Int) ≤ n ∧ zO G H al 35 [.int (iI (mc + 1)), .ref ar, .int (iI 0)] ∧ zAO G H ar cp (fun k => if k < i then none else zEf n el k)) (fun _ => 0) (fun _ => 0) (fun i => n.toNat - i) (fun i H7 locs hI hS ih ls hl => ?_) 0 _ _ ?_ hS ls (z_lvren (lv_sub hl [0, 1, 2, 3] rfl) rfl)
  · obtain ⟨hi7, ho7, ha7⟩ := hI
    have hl : lv_has ls 4 [(3, .int (iI ((i : Nat) : Int))), (2, .int (iI n)), (1, .ref ar), (0, .ref al)] := hl
    refine lv_iload_n hx hb dJ2_clear_27 rfl (lv_at hl 0 rfl) ?_
    refine lv_iload_n hx hb dJ2_clear_28 rfl (lv_at hl 1 rfl) ?_
    refine z_icmp_ge (x := ((i : Nat) : Int)) (y := n) (tgt := 42) hx hb (by first | with_reducible assumption | omega | exact ⟨by omega, by omega⟩) (by first | with_reducible assumption | omega | exact ⟨by omega, by omega⟩) dJ2_clear_29 (by decide) (fun c_13 => ?_) (fun c_13 => ?_)
    · exact z_vret hx hb hret hlocks hS ⟨rfl, ho7, zAO_congr ha7 (fun k _ => by unfold zEf; split; exact (if_neg (by omega)).symm; rw [if_neg (by omega), if_neg (by omega)]), ⟨by omega, by omega, by omega⟩, hcp, hne⟩ (Nat.le_of_ble_eq_true rfl) (Nat.le_of_ble_eq_true rfl) dJ2_clear_42
    · have hA_ar := hA_ar (by omega)
      refine lv_aload_n hx hb dJ2_clear_32 rfl (lv_at hl 2 rfl) ?_
      refine lv_iload_n hx hb dJ2_clear_33 rfl (lv_at hl 0 rfl) ?_
      refine lv_null hx hb dJ2_clear_34 ?_
      refine z_astN (i := ((i : Nat) : Int)) hx hb hK ha7 hA_ar hS (by omega) (by omega) (by omega) dJ2_clear_35 (fun H_14 locs ho_15 hz_16 hk_17 hS1 => ?_)
      have hS := hS1
      have hf_18 := va_at.kept ho7 (hk_17 _ hne)
      have hsz_19 : s.heap.size ≤ H_14.size := hS.1
      have hS0 := hS
      refine lv_iinc (v := iI (((i : Nat) : Int) + 1)) (lv' := [(3, .int (iI (((i : Nat) : Int) + 1))), (2, .int (iI n)), (1, .ref ar), (0, .ref al)]) hx hb dJ2_clear_36 hl (k := 0) rfl (iI_add _ _) (by decide) rfl (fun ls hl => ?_)
      refine lv_goto (tgt := 27) hx hb dJ2_clear_39 (by decide) ?_
      exact ih (i + 1) _ locs ⟨by omega, hf_18, zclr_up (n := n) (el := el) ▸ ho_15⟩ hS (by omega) ls (z_lvren (lv_sub hl [0, 1, 2, 3] rfl) rfl)
  · exact ⟨by omega, ho_8, zAO_congr hf_11 (fun k _ => (if_neg (by omega)).symm)⟩
