set_option maxRecDepth 100000
theorem hn_J0_init : yJ0_init.cls ≠ "java/lang/invoke/MethodHandle" ∧ yJ0_init.cls ≠ "java/lang/invoke/VarHandle" ∧ (parseMethodDescriptor yJ0_init.desc).map (fun d => d.parameters.length) = some 0 := by decide +kernel
theorem hd_J0_init : yJ0_init.cls = "java/util/AbstractCollection" ∧ yJ0_init.cls ≠ "java/lang/invoke/MethodHandle" ∧ yJ0_init.cls ≠ "java/lang/invoke/VarHandle" ∧ (parseMethodDescriptor yJ0_init.desc).map (fun d => d.parameters.length) = some 0 := ⟨rfl, hn_J0_init⟩
abbrev rm_J0_init : Room := { frames := 1, cells := 0, slots := 0, locals := 16 }
set_option maxHeartbeats 1000000 in
theorem cc_J0_init (l : Launch) {G : zG} {H0 : Heap} {h0 : Nat} {x0 x2 : Int} {x1 : Option Nat} (ho : zO G H0 h0 35 [.int (iI x0), va_rf x1, .int (iI x2)]) : zM l yJ0_init (ws_ yJ0_init cJ0_init 1 none) rm_J0_init G (zO1 h0 H0) [.ref h0] H0 (fun r H1 => r = none ∧ zO G H1 h0 35 [.int (iI x0), va_rf x1, .int (iI x2)] ∧ H1.size = H0.size ∧ ∀ q : Nat, q ≠ h0 → H1[q]? = H0[q]?) (fun _ => False) := by
  refine z_enter (by decide +kernel) (Nat.le_of_ble_eq_true rfl) ?_
  intro p e s m args below meth c ls hx hb hret hml hown hts hlocks htab hnm hK hH hl
  subst hH
  have hAn : ∀ q, s.heap.size ≤ q → (zO1 h0 s.heap) q := fun _ h => Or.inr h
  have hS : va_S (zO1 h0 s.heap) s.heap s.heap [] := va_S.rf
  have hS0 := hS
  have hsz_0 : s.heap.size ≤ s.heap.size := Nat.le_refl _
  have hl : lv_has ls 1 [(0, .ref h0)] := hl
  have hA0 : zO1 h0 s.heap h0 := Or.inl rfl
  refine lv_aload_n hx hb dJ0_init_0 rfl (lv_at hl 0 rfl) ?_
  refine W.objInit hx hb hown (hts _ q129) (hts _ q116) (hts _ q117) rfl (by rw [hml]; exact hl.1) rfl dJ0_init_1 (Nat.le_of_ble_eq_true rfl) (Nat.le_of_ble_eq_true rfl) ?_
  refine W.eq (g2 := F0 m 4 ls []) rfl ?_
  exact z_vret hx hb hret hlocks hS ⟨rfl, ho, rfl, (fun _ _ => rfl)⟩ (Nat.le_of_ble_eq_true rfl) (Nat.le_of_ble_eq_true rfl) dJ0_init_4
theorem hn_J1_init : yJ1_init.cls ≠ "java/lang/invoke/MethodHandle" ∧ yJ1_init.cls ≠ "java/lang/invoke/VarHandle" ∧ (parseMethodDescriptor yJ1_init.desc).map (fun d => d.parameters.length) = some 0 := by decide +kernel
theorem hd_J1_init : yJ1_init.cls = "java/util/AbstractList" ∧ yJ1_init.cls ≠ "java/lang/invoke/MethodHandle" ∧ yJ1_init.cls ≠ "java/lang/invoke/VarHandle" ∧ (parseMethodDescriptor yJ1_init.desc).map (fun d => d.parameters.length) = some 0 := ⟨rfl, hn_J1_init⟩
abbrev rm_J1_init : Room := { frames := 2, cells := 0, slots := 0, locals := 36 }
set_option maxHeartbeats 1000000 in
theorem cc_J1_init (l : Launch) {G : zG} {H0 : Heap} {h0 : Nat} {x0 x2 : Int} {x1 : Option Nat} (ho : zO G H0 h0 35 [.int (iI x0), va_rf x1, .int (iI x2)]) : zM l yJ1_init (ws_ yJ1_init cJ1_init 1 none) rm_J1_init G (zO1 h0 H0) [.ref h0] H0 (fun r H1 => r = none ∧ zO G H1 h0 35 [.int (iI 0), va_rf x1, .int (iI x2)] ∧ H1.size = H0.size ∧ ∀ q : Nat, q ≠ h0 → H1[q]? = H0[q]?) (fun _ => False) := by
  refine z_enter (by decide +kernel) (Nat.le_of_ble_eq_true rfl) ?_
  intro p e s m args below meth c ls hx hb hret hml hown hts hlocks htab hnm hK hH hl
  subst hH
  have hAn : ∀ q, s.heap.size ≤ q → (zO1 h0 s.heap) q := fun _ h => Or.inr h
  have hS : va_S (zO1 h0 s.heap) s.heap s.heap [] := va_S.rf
  have hS0 := hS
  have hsz_0 : s.heap.size ≤ s.heap.size := Nat.le_refl _
  have hl : lv_has ls 1 [(0, .ref h0)] := hl
  have hA0 : zO1 h0 s.heap h0 := Or.inl rfl
  refine lv_aload_n hx hb dJ1_init_0 rfl (lv_at hl 0 rfl) ?_
  refine z_callV (vx_runI (As := []) (rest := []) ⟨hx, hb, hml, hown, hts⟩ (cc_J0_init l ho) (cwI 0 hts (lw_meth q128) rfl rfl rfl (hts _ q44) (hts _ q126) (hts _ q127) rfl hn_J0_init ⟨Nat.le_of_ble_eq_true rfl, Nat.le_of_ble_eq_true rfl⟩) (z_preS hK hS (zO1_le hA0 hAn hS)) rfl rfl hl.1 rfl (lv_room (Nat.le_of_ble_eq_true rfl)) dJ1_init_1 ⟨Nat.le_of_ble_eq_true rfl, Nat.le_of_ble_eq_true rfl⟩) hS (zO1_le hA0 hAn hS) (fun H_1 locs hp _ _ hS1 => ?_)
  obtain ⟨ho_2, hz_3, hk_4⟩ := hp
  have hS := hS1
  have hsz_5 : s.heap.size ≤ H_1.size := hS.1
  have hS0 := hS
  refine lv_aload_n hx hb dJ1_init_4 rfl (lv_at hl 0 rfl) ?_
  refine lv_iconst (v := iI 0) hx hb dJ1_init_5 rfl ?_
  refine z_put (v := .int (iI 0)) hx hb hts in_J2 tyJ2 tyJ2_ok nmJ2 hown hK ho_2 hA0 hS rfl 0 (by decide) q134 rfl rfl rfl rfl (Nat.le_of_ble_eq_true rfl) dJ1_init_6 (fun H_6 locs ho_7 hz_8 hk_9 hS1 => ?_)
  have hS := hS1
  have hsz_10 : s.heap.size ≤ H_6.size := hS.1
  have sz_11 := hz_8.trans hz_3
  have fr_12 := fun (q : Nat) (hq : q ≠ h0) => (hk_9 q hq).trans (hk_4 q hq)
  have hS0 := hS
  exact z_vret hx hb hret hlocks hS ⟨rfl, ho_7, sz_11, fr_12⟩ (Nat.le_of_ble_eq_true rfl) (Nat.le_of_ble_eq_true rfl) dJ1_init_9
theorem hn_J2_init : yJ2_init.cls ≠ "java/lang/invoke/MethodHandle" ∧ yJ2_init.cls ≠ "java/lang/invoke/VarHandle" ∧ (parseMethodDescriptor yJ2_init.desc).map (fun d => d.parameters.length) = some 0 := by decide +kernel
theorem hd_J2_init : yJ2_init.cls = "java/util/ArrayList" ∧ yJ2_init.cls ≠ "java/lang/invoke/MethodHandle" ∧ yJ2_init.cls ≠ "java/lang/invoke/VarHandle" ∧ (parseMethodDescriptor yJ2_init.desc).map (fun d => d.parameters.length) = some 0 := ⟨rfl, hn_J2_init⟩
abbrev rm_J2_init : Room := { frames := 3, cells := 0, slots := 0, locals := 56 }
set_option maxHeartbeats 1000000 in
theorem cc_J2_init (l : Launch) {G : zG} {H0 : Heap} {h0 : Nat} {x0 x2 : Int} {x1 : Option Nat} (ho : zO G H0 h0 35 [.int (iI x0), va_rf x1, .int (iI x2)]) : zM l yJ2_init (ws_ yJ2_init cJ2_init 1 none) rm_J2_init G (zO1 h0 H0) [.ref h0] H0 (fun r H1 => r = none ∧ zO G H1 h0 35 [.int (iI 0), .ref G.2.2.1, .int (iI x2)] ∧ H1.size = H0.size ∧ ∀ q : Nat, q ≠ h0 → H1[q]? = H0[q]?) (fun _ => False) := by
  refine z_enter (by decide +kernel) (Nat.le_of_ble_eq_true rfl) ?_
  intro p e s m args below meth c ls hx hb hret hml hown hts hlocks htab hnm hK hH hl
  subst hH
  have hAn : ∀ q, s.heap.size ≤ q → (zO1 h0 s.heap) q := fun _ h => Or.inr h
  have hS : va_S (zO1 h0 s.heap) s.heap s.heap [] := va_S.rf
  have hS0 := hS
  have hsz_0 : s.heap.size ≤ s.heap.size := Nat.le_refl _
  have hl : lv_has ls 1 [(0, .ref h0)] := hl
  have hA0 : zO1 h0 s.heap h0 := Or.inl rfl
  refine lv_aload_n hx hb dJ2_init_0 rfl (lv_at hl 0 rfl) ?_
  refine z_callV (vx_runI (As := []) (rest := []) ⟨hx, hb, hml, hown, hts⟩ (cc_J1_init l ho) (cwI 0 hts (lw_meth q125) rfl rfl rfl (hts _ q45) (hts _ q123) (hts _ q124) rfl hn_J1_init ⟨Nat.le_of_ble_eq_true rfl, Nat.le_of_ble_eq_true rfl⟩) (z_preS hK hS (zO1_le hA0 hAn hS)) rfl rfl hl.1 rfl (lv_room (Nat.le_of_ble_eq_true rfl)) dJ2_init_1 ⟨Nat.le_of_ble_eq_true rfl, Nat.le_of_ble_eq_true rfl⟩) hS (zO1_le hA0 hAn hS) (fun H_1 locs hp _ _ hS1 => ?_)
  obtain ⟨ho_2, hz_3, hk_4⟩ := hp
  have hS := hS1
  have hsz_5 : s.heap.size ≤ H_1.size := hS.1
  have hS0 := hS
  refine lv_aload_n hx hb dJ2_init_4 rfl (lv_at hl 0 rfl) ?_
  refine va_gets (v := .ref G.2.2.1) hx hb hK.2.2.2.2.2.2.1 hS hown (hts _ q130) (fun x h => h) dJ2_init_5 ?_
  refine z_put (v := .ref G.2.2.1) hx hb hts in_J2 tyJ2 tyJ2_ok nmJ2 hown hK ho_2 hA0 hS rfl 1 (by decide) q132 rfl rfl rfl rfl (Nat.le_of_ble_eq_true rfl) dJ2_init_8 (fun H_6 locs ho_7 hz_8 hk_9 hS1 => ?_)
  have hS := hS1
  have hsz_10 : s.heap.size ≤ H_6.size := hS.1
  have sz_11 := hz_8.trans hz_3
  have fr_12 := fun (q : Nat) (hq : q ≠ h0) => (hk_9 q hq).trans (hk_4 q hq)
  have hS0 := hS
  exact z_vret hx hb hret hlocks hS ⟨rfl, ho_7, sz_11, fr_12⟩ (Nat.le_of_ble_eq_true rfl) (Nat.le_of_ble_eq_true rfl) dJ2_init_11
