set_option maxRecDepth 100000
def zpt (ad : zKey → Nat) (k : zKey) (a : Nat) : zKey → Nat := fun k' => if k' = k then a else ad k'
theorem zpt_s {ad : zKey → Nat} {k : zKey} {a : Nat} : zpt ad k a k = a := if_pos rfl
theorem zpt_n {ad : zKey → Nat} {k k' : zKey} {a : Nat} (h : k' ≠ k) : zpt ad k a k' = ad k' := if_neg h
theorem kne {t t' : Nat} {i i' j j' : Int} (h : t ≠ t' ∨ i ≠ i' ∨ j ≠ j') : ((t, i, j) : zKey) ≠ (t', i', j') := fun q => by
  have h1 := (Prod.mk.inj q).1
  have h2 := (Prod.mk.inj (Prod.mk.inj q).2).1
  have h3 := (Prod.mk.inj (Prod.mk.inj q).2).2
  omega
theorem zLk_tag (l i : Int) : (zLk l i).1 = if l = 0 then 4 else if l = 1 then 9 else if l = 2 then 11 else 6 := by
  unfold zLk
  split
  · rfl
  · split
    · rfl
    · split <;> rfl
theorem zLk_ne {l i : Int} {t : Nat} {i' j' : Int} (h : (if l = 0 then 4 else if l = 1 then 9 else if l = 2 then 11 else 6) ≠ t) : zLk l i ≠ ((t, i', j') : zKey) := fun q => h (by rw [← zLk_tag l i, q])
theorem zLk_neA {l i : Int} {t : Nat} {i' j' : Int} (h : t ≠ 4 ∧ t ≠ 9 ∧ t ≠ 11 ∧ t ≠ 6) : zLk l i ≠ ((t, i', j') : zKey) := zLk_ne (by
  split
  · exact fun q => h.1 q.symm
  · split
    · exact fun q => h.2.1 q.symm
    · split
      · exact fun q => h.2.2.1 q.symm
      · exact fun q => h.2.2.2 q.symm)
theorem zLk_ne9 {l i : Int} {i' j' : Int} (h : l ≠ 1) : zLk l i ≠ ((9, i', j') : zKey) := zLk_ne (by
  by_cases q0 : l = 0
  · rw [if_pos q0]; decide
  · by_cases q2 : l = 2
    · rw [if_neg q0, if_neg h, if_pos q2]; decide
    · rw [if_neg q0, if_neg h, if_neg q2]; decide)
theorem zLk_ne11 {l i : Int} {i' j' : Int} (h : l ≠ 2) : zLk l i ≠ ((11, i', j') : zKey) := zLk_ne (by
  by_cases q0 : l = 0
  · rw [if_pos q0]; decide
  · by_cases q2 : l = 1
    · rw [if_neg q0, if_pos q2]; decide
    · rw [if_neg q0, if_neg q2, if_neg h]; decide)
theorem zLk_ne6 {l i d j' : Int} (h : l ≠ 3 + d) : zLk l i ≠ ((6, d, j') : zKey) := by
  intro q
  by_cases q0 : l = 0
  · exact zLk_ne (by rw [if_pos q0]; decide) q
  · by_cases q1 : l = 1
    · exact zLk_ne (by rw [if_neg q0, if_pos q1]; decide) q
    · by_cases q2 : l = 2
      · exact zLk_ne (by rw [if_neg q0, if_neg q1, if_pos q2]; decide) q
      · unfold zLk at q
        rw [if_neg q0, if_neg q1, if_neg q2] at q
        have := (Prod.mk.inj (Prod.mk.inj q).2).1
        omega
/-- the references lie in range -/
abbrev tRf (w : Int → Int) : Prop := ∀ d8 b8 : Int, 0 ≤ d8 → d8 < w 2 → 0 ≤ b8 → b8 < w (5 + 32 * d8 + 1) → (w (5 + 32 * d8 + 8 + 8 * b8) = -1 ∨ 0 ≤ w (5 + 32 * d8 + 8 + 8 * b8) ∧ w (5 + 32 * d8 + 8 + 8 * b8) < w 3) ∧ (w (5 + 32 * d8 + 8 + 8 * b8 + 1) ≠ 0 → 0 ≤ w (5 + 32 * d8 + 8 + 8 * b8 + 3) ∧ w (5 + 32 * d8 + 8 + 8 * b8 + 3) < w 3)
def zu1 (f : Int → Int) (l x : Int) : Int → Int := fun j => if j = l then x else f j
def zu2 (f : Int → Nat) (l : Int) (x : Nat) : Int → Nat := fun j => if j = l then x else f j
theorem zu1_s {f : Int → Int} {l x : Int} : zu1 f l x l = x := if_pos rfl
theorem zu2_s {f : Int → Nat} {l : Int} {x : Nat} : zu2 f l x l = x := if_pos rfl
theorem zu1_n {f : Int → Int} {l x j : Int} (h : j ≠ l) : zu1 f l x j = f j := if_neg h
theorem zu2_n {f : Int → Nat} {l j : Int} {x : Nat} (h : j ≠ l) : zu2 f l x j = f j := if_neg h
theorem tRf.of {w : Int → Int} (h : tBr w) : tRf w := fun d b h1 h2 h3 h4 => by
  have y := h d b h1 h2 h3 h4
  by_cases q : b = 0
  · exact ⟨Or.inl (y.2.2.2.1 q), fun z => y.2.2.1 (by omega)⟩
  · exact ⟨Or.inr (y.2.2.2.2.1 q), fun z => y.2.2.1 (by omega)⟩
theorem zR.addVersion {G : zG} {w w' : Int → Int} {ad : zKey → Nat} {mc : Int → Int} {cp : Int → Nat} {cl : Bool} {F : Nat → Prop} {H H1 : Heap} (h : zR G w ad mc cp cl F H) {y yv : Nat} {d b mj mi : Int} {f : Int → Int} {a1 c1 : Nat} {el1 : Nat → Nat} (hlt : w 3 < 60) (hLk : tLk w) (hRf : tRf w) (hw : ∀ c : Int, ¬ (261 + 9 * w 3 ≤ c ∧ c < 261 + 9 * w 3 + 9) ∧ c ≠ 3 → w' c = w c) (hin : ∀ k, inR (w' k)) (hn : w' (3) = w (3) + 1)
    (hL : zLst G H1 (ad (kal (1))) a1 (mc (1) + 1) (w (3) + 1) c1 el1) (hel : ∀ i : Nat, (i : Int) < w (3) → el1 i = ad (zLk (1) i)) (hel9 : el1 (w (3)).toNat = y) (ha1 : a1 = ad (kar (1)) ∧ c1 = cp (1) ∧ w (3) < cp (1) ∨ H.size ≤ a1) (hc1 : c1 ≤ 110) (hFa : H.size ≤ a1 → F a1)
    (hq : ∀ q : Nat, q < H.size → q ≠ ad (kal (1)) → ¬ (w (3) < cp (1) ∧ q = ad (kar (1))) → H1[q]? = H[q]?) (hne1 : a1 ≠ G.2.2.1 ∨ 0 < c1) (hD' : tD w') (hV' : tV w') (hL' : tL w') (hB' : tB w') (e0 : w' (261 + 9 * w 3) = d) (e1 : w' (261 + 9 * w 3 + 1) = b) (e2_ : w' (261 + 9 * w 3 + 2) = mj) (e3 : w' (261 + 9 * w 3 + 3) = mi) (e8 : w' (261 + 9 * w 3 + 8) = 1) (ev : ∀ j : Int, 0 ≤ j → j < 4 → w' (261 + 9 * w 3 + 4 + j) = f j) (hy : zO G H1 y 11 [.ref yv, .int (iI (w 3)), .int (iI d), .int (iI b), .int (iI mj), .int (iI mi), .int (iI 0)]) (hyv : zAI G H1 yv 4 (zF f)) (hny : ∀ k, zlive w cp k → ad k ≠ y ∧ ad k ≠ yv) (hyy : y ≠ yv) (hFy : F y ∧ F yv) (hya : y ≠ a1 ∧ yv ≠ a1) : zR G w' (zpt (zpt (zpt ad (kar (1)) a1) (kver (w 3)) y) (kvv (w 3)) yv) (zu1 mc (1) (mc (1) + 1)) (zu2 cp (1) c1) cl F H1 := by
  obtain ⟨hD, hV, hL_, hB, -⟩ := h.n
  have hln : zLn w (1) = w (3) := rfl
  have hln' : zLn w' (1) = w' (3) := rfl
  have hlo : ∀ l8 : Int, l8 ≠ 1 → 0 ≤ l8 → l8 < 3 + w 2 → zLn w' l8 = zLn w l8 := fun l8 x1 x2 x3 => by
    unfold zLn
    by_cases q0 : l8 = 0
    · rw [if_pos q0, if_pos q0]; first | exact hw _ (by omega) | omega
    · rw [if_neg q0, if_neg q0]
      by_cases q1 : l8 = 1
      · rw [if_pos q1, if_pos q1]; first | exact hw _ (by omega) | omega
      · rw [if_neg q1, if_neg q1]
        by_cases q2 : l8 = 2
        · rw [if_pos q2, if_pos q2]; first | exact hw _ (by omega) | omega
        · rw [if_neg q2, if_neg q2]; exact hw _ (by omega)
  have e2 : w' 2 = w 2 := hw 2 (by omega)
  have hlr : (0 : Int) ≤ 1 ∧ 1 < 3 + w 2 := by omega
  refine h.add (l := 1) hlr (fun k => k = kver (w 3) ∨ k = kvv (w 3)) (a1 := a1) (c1 := c1) (el' := el1) ?_ (((zpt_n (kne (by omega))).trans ((zpt_n (kne (by omega))).trans zpt_s))) ?_ ?_ ?_ ?_ ?_ ?_ (by rw [hln]; exact hL) ?_ (by rw [hln]; exact ha1) hFa ?_ (by rw [hln]; exact hq) zu1_s zu2_s (by rw [hln, hln']; exact hn) ?_ ⟨hD', hV', hL', hB', hin⟩
  · intro k x1 x2
    exact (zpt_n (fun q => x1 (Or.inr q))).trans ((zpt_n (fun q => x1 (Or.inl q))).trans (zpt_n x2))
  · rintro k x1 x2
    rcases x2 with rfl | rfl <;> (simp only [zlive] at x1; omega)
  · intro x2
    rcases x2 with x2 | x2 <;> (exact absurd x2 (kne (by omega)))
  · intro k hk
    match k, hk with
    | (0, i8, j8), hk =>
      simp only [zlive] at hk
      exact Or.inr (Or.inl hk)
    | (1, l8, j8), hk =>
      simp only [zlive] at hk
      exact Or.inr (Or.inl ⟨⟨by omega, by omega⟩, hk.2⟩)
    | (2, l8, j8), hk =>
      simp only [zlive] at hk
      exact Or.inr (Or.inl ⟨⟨by omega, by omega⟩, hk.2⟩)
    | (3, l8, j8), hk =>
      simp only [zlive] at hk
      by_cases e : l8 = 1
      · exact Or.inr (Or.inr (by rw [e, hk.2]))
      · rw [zu2_n e] at hk
        exact Or.inr (Or.inl ⟨⟨⟨by omega, by omega⟩, hk.1.2⟩, hk.2⟩)
    | (4, d8, j8), hk =>
      simp only [zlive] at hk
      exact Or.inr (Or.inl ⟨⟨by omega, by omega⟩, hk.2⟩)
    | (5, d8, j8), hk =>
      simp only [zlive] at hk
      exact Or.inr (Or.inl ⟨⟨by omega, by omega⟩, hk.2⟩)
    | (6, d8, b8), hk =>
      simp only [zlive] at hk
      have y := hB d8 (by omega) (by omega)
      have y2 := hw (5 + 32 * d8 + 1) (by omega)
      exact Or.inr (Or.inl ⟨⟨by omega, by omega⟩, by omega, by omega⟩)
    | (7, d8, b8), hk =>
      simp only [zlive] at hk
      have y := hB d8 (by omega) (by omega)
      have y2 := hw (5 + 32 * d8 + 1) (by omega)
      have y3 := hw (5 + 32 * d8 + 8 + 8 * b8 + 1) (by omega)
      exact Or.inr (Or.inl ⟨⟨⟨by omega, by omega⟩, by omega, by omega⟩, by rw [← y3]; exact hk.2⟩)
    | (8, d8, b8), hk =>
      simp only [zlive] at hk
      have y := hB d8 (by omega) (by omega)
      have y2 := hw (5 + 32 * d8 + 1) (by omega)
      have y3 := hw (5 + 32 * d8 + 8 + 8 * b8 + 1) (by omega)
      exact Or.inr (Or.inl ⟨⟨⟨by omega, by omega⟩, by omega, by omega⟩, by rw [← y3]; exact hk.2⟩)
    | (9, v8, j8), hk =>
      simp only [zlive] at hk
      by_cases e : v8 = w 3
      · exact Or.inl (Or.inl (by rw [e, hk.2]))
      · exact Or.inr (Or.inl ⟨⟨by omega, by omega⟩, hk.2⟩)
    | (10, v8, j8), hk =>
      simp only [zlive] at hk
      by_cases e : v8 = w 3
      · exact Or.inl (Or.inr (by rw [e, hk.2]))
      · exact Or.inr (Or.inl ⟨⟨by omega, by omega⟩, hk.2⟩)
    | (11, k8, j8), hk =>
      simp only [zlive] at hk
      have y := hw 4 (by omega)
      exact Or.inr (Or.inl ⟨⟨by omega, by omega⟩, hk.2⟩)
  · intro k hk x2
    rcases x2 with rfl | rfl
    · show va_at G.1 zcl (_, zcont G w' _ _ _ cl (kver (w 3))) H1
      rw [show zpt (zpt (zpt ad (kar 1) a1) (kver (w 3)) y) (kvv (w 3)) yv (kver (w 3)) = y from ((zpt_n (kne (by omega))).trans zpt_s)]
      show zO G H1 y 11 [.ref (zpt (zpt (zpt ad (kar 1) a1) (kver (w 3)) y) (kvv (w 3)) yv (kvv (w 3))), .int (iI (w 3)), .int (iI (w' (261 + 9 * w 3))), .int (iI (w' (261 + 9 * w 3 + 1))), .int (iI (w' (261 + 9 * w 3 + 2))), .int (iI (w' (261 + 9 * w 3 + 3))), .int (iI (bI (zGn w' (w 3))))]
      rw [zpt_s, e0, e1, e2_, e3, show zGn w' (w 3) = false by simp [zGn, e8]]
      exact hy
    · rw [zpt_s]
      exact zF_congr hyv (fun j x1 x2 => (ev j x1 x2).symm)
  · intro k hk x2
    rcases x2 with rfl | rfl
    · exact ⟨fun k0 x3 => by rw [show zpt (zpt (zpt ad (kar 1) a1) (kver (w 3)) y) (kvv (w 3)) yv (kver (w 3)) = y from (zpt_n (kne (by omega))).trans zpt_s]; exact (hny k0 x3).1, by rw [show zpt (zpt (zpt ad (kar 1) a1) (kver (w 3)) y) (kvv (w 3)) yv (kver (w 3)) = y from (zpt_n (kne (by omega))).trans zpt_s]; exact hFy.1, by rw [show zpt (zpt (zpt ad (kar 1) a1) (kver (w 3)) y) (kvv (w 3)) yv (kver (w 3)) = y from (zpt_n (kne (by omega))).trans zpt_s]; exact hya.1⟩
    · exact ⟨fun k0 x3 => by rw [zpt_s]; exact (hny k0 x3).2, by rw [zpt_s]; exact hFy.2, by rw [zpt_s]; exact hya.2⟩
  · intro k k' _ _ x1 x2 e
    rcases x1 with rfl | rfl <;> rcases x2 with rfl | rfl
    · rfl
    · exact absurd ((((zpt_n (kne (by omega))).trans zpt_s)).symm.trans (e.trans zpt_s)) hyy
    · exact absurd ((((zpt_n (kne (by omega))).trans zpt_s)).symm.trans (e.symm.trans zpt_s)) hyy
    · rfl
  · intro i hi
    rw [hln] at hi
    by_cases e : (i : Int) = w (3)
    · rw [show i = (w (3)).toNat by omega, hel9, show zLk (1) (((w (3)).toNat : Nat) : Int) = kver (w 3) by rw [show (((w (3)).toNat : Nat) : Int) = w (3) by omega]; rfl]
      exact ((zpt_n (kne (by omega))).trans zpt_s).symm
    · rw [hel i (by omega)]
      have hz : zLk (1) (i : Int) = kver (i : Int) := rfl
      rw [hz]
      exact (((zpt_n (kne (by omega))).trans ((zpt_n (kne (by omega))).trans (zpt_n (kne (by omega)))))).symm
  · intro k hk' hk x1 x2
    match k, hk', hk, x1, x2 with
    | (0, i8, j8), hk', hk, x1, x2 =>
      exact ⟨hw _ (by omega), hw _ (by omega), (((zpt_n (kne (by omega))).trans ((zpt_n (kne (by omega))).trans (zpt_n (kne (by omega)))))), (((zpt_n (kne (by omega))).trans ((zpt_n (kne (by omega))).trans (zpt_n (kne (by omega)))))), (((zpt_n (kne (by omega))).trans ((zpt_n (kne (by omega))).trans (zpt_n (kne (by omega))))))⟩
    | (1, l8, j8), hk', hk, x1, x2 =>
      simp only [zlive] at hk hk'
      exact (((zpt_n (kne (by omega))).trans ((zpt_n (kne (by omega))).trans (zpt_n (kne (by omega))))))
    | (2, l8, j8), hk', hk, x1, x2 =>
      simp only [zlive] at hk hk'
      have y := knn2 x1
      exact ⟨hlo _ (by omega) (by omega) (by omega), zu1_n (by omega), (((zpt_n (kne (by omega))).trans ((zpt_n (kne (by omega))).trans (zpt_n (kne (by omega))))))⟩
    | (3, l8, j8), hk', hk, x1, x2 =>
      simp only [zlive] at hk hk'
      have y := knn2 x2
      have y2 : l8 ≠ 1 := by omega
      exact ⟨hlo _ (by omega) (by omega) (by omega), zu2_n (by omega), fun i8 hi8 => (((zpt_n (zLk_neA (by decide))).trans ((zpt_n (zLk_ne9 y2)).trans (zpt_n (zLk_neA (by decide))))))⟩
    | (4, d8, j8), hk', hk, x1, x2 =>
      simp only [zlive] at hk hk'
      have y := hB d8 (by omega) (by omega)
      exact ⟨hw _ (by omega), (((zpt_n (kne (by omega))).trans ((zpt_n (kne (by omega))).trans (zpt_n (kne (by omega)))))), (((zpt_n (kne (by omega))).trans ((zpt_n (kne (by omega))).trans (zpt_n (kne (by omega))))))⟩
    | (5, d8, j8), hk', hk, x1, x2 =>
      simp only [zlive] at hk hk'
      have y := hB d8 (by omega) (by omega)
      exact ⟨hw _ (by omega), fun p8 z1 z2 => hw _ (by omega)⟩
    | (6, d8, b8), hk', hk, x1, x2 =>
      simp only [zlive] at hk hk'
      have y := hB d8 (by omega) (by omega)
      have z := hRf d8 b8 (by omega) (by omega) (by omega) (by omega)
      refine ⟨?_, ?_⟩
      · unfold zOg
        rw [hw _ (by omega)]
        split
        · rfl
        · exact congrArg some (((zpt_n (kne (by omega))).trans ((zpt_n (kne (by omega))).trans (zpt_n (kne (by omega))))))
      · unfold zCy
        rw [hw _ (by omega)]
        split
        · rfl
        · exact congrArg some (((zpt_n (kne (by omega))).trans ((zpt_n (kne (by omega))).trans (zpt_n (kne (by omega))))))
    | (7, d8, b8), hk', hk, x1, x2 =>
      simp only [zlive] at hk hk'
      have y := hB d8 (by omega) (by omega)
      have z := hRf d8 b8 (by omega) (by omega) (by omega) (by omega)
      have z2 := z.2 hk.2
      exact ⟨hw _ (by omega), hw _ (by omega), hw _ (by omega), (((zpt_n (kne (by omega))).trans ((zpt_n (kne (by omega))).trans (zpt_n (kne (by omega)))))), (((zpt_n (kne (by omega))).trans ((zpt_n (kne (by omega))).trans (zpt_n (kne (by omega))))))⟩
    | (8, d8, b8), hk', hk, x1, x2 =>
      simp only [zlive] at hk hk'
      have y := hB d8 (by omega) (by omega)
      exact fun j9 z1 z2 => hw _ (by omega)
    | (9, v8, j8), hk', hk, x1, x2 =>
      simp only [zlive] at hk hk'
      exact ⟨hw _ (by omega), hw _ (by omega), hw _ (by omega), hw _ (by omega), hw _ (by omega), (((zpt_n (kne (by omega))).trans ((zpt_n (kne (by omega))).trans (zpt_n (kne (by omega))))))⟩
    | (10, v8, j8), hk', hk, x1, x2 =>
      simp only [zlive] at hk hk'
      exact fun j9 z1 z2 => hw _ (by omega)
    | (11, k8, j8), hk', hk, x1, x2 =>
      simp only [zlive] at hk hk'
      have a1_ : w' (801 + 3 * k8 + 1) = w (801 + 3 * k8 + 1) := hw _ (by omega)
      have a2_ : w' (801 + 3 * k8 + 2) = w (801 + 3 * k8 + 2) := hw _ (by omega)
      refine ⟨hw _ (by omega), a1_, ?_, ?_⟩
      · unfold zLt
        rw [a1_, a2_]
        split
        · have y := hLk k8 (by omega) (by omega) (by assumption)
          exact hw _ (by omega)
        · rfl
      · unfold zLv
        rw [a1_, a2_]
        split
        · have y := hLk k8 (by omega) (by omega) (by assumption)
          exact congrArg some (((zpt_n (kne (by omega))).trans ((zpt_n (kne (by omega))).trans (zpt_n (kne (by omega))))))
        · rfl
    | (n8 + 12, i8, j8), hk', hk, x1, x2 =>
      exact trivial
  · intro l8 z1 z2
    by_cases e : l8 = 1
    · subst e
      rw [zu2_s, hln', hn]
      refine ⟨⟨hL.2.2.1.2.1, hc1⟩, fun q => ?_⟩
      have := hL.2.2.1.2.1
      omega
    · rw [zu2_n e, hlo l8 e z1 (by omega)]
      have c9 := h.cap l8 z1 (by omega)
      exact ⟨c9.1, fun q => by rw [← c9.2 q]; exact (((zpt_n (kne (by omega))).trans ((zpt_n (kne (by omega))).trans (zpt_n (kne (by omega))))))⟩
theorem zR.addLink {G : zG} {w w' : Int → Int} {ad : zKey → Nat} {mc : Int → Int} {cp : Int → Nat} {cl : Bool} {F : Nat → Prop} {H H1 : Heap} (h : zR G w ad mc cp cl F H) {y : Nat} {a1 c1 : Nat} {el1 : Nat → Nat} (hlt : w 4 < 24) (hLk : tLk w) (hRf : tRf w) (hw : ∀ c : Int, ¬ (801 + 3 * w 4 ≤ c ∧ c < 801 + 3 * w 4 + 3) ∧ c ≠ 4 → w' c = w c) (hin : ∀ k, inR (w' k)) (hn : w' (4) = w (4) + 1)
    (hL : zLst G H1 (ad (kal (2))) a1 (mc (2) + 1) (w (4) + 1) c1 el1) (hel : ∀ i : Nat, (i : Int) < w (4) → el1 i = ad (zLk (2) i)) (hel9 : el1 (w (4)).toNat = y) (ha1 : a1 = ad (kar (2)) ∧ c1 = cp (2) ∧ w (4) < cp (2) ∨ H.size ≤ a1) (hc1 : c1 ≤ 110) (hFa : H.size ≤ a1 → F a1)
    (hq : ∀ q : Nat, q < H.size → q ≠ ad (kal (2)) → ¬ (w (4) < cp (2) ∧ q = ad (kar (2))) → H1[q]? = H[q]?) (hne1 : a1 ≠ G.2.2.1 ∨ 0 < c1) (hD' : tD w') (hV' : tV w') (hL' : tL w') (hB' : tB w') (hy : zO G H1 y 12 [.int (iI (w' (801 + 3 * w 4))), .int (iI (zLt w' (w 4))), .int (iI (w' (801 + 3 * w 4 + 1))), va_rf (zLv w' ad (w 4))]) (hny : ∀ k, zlive w cp k → ad k ≠ y) (hFy : F y) (hya : y ≠ a1) : zR G w' (zpt (zpt ad (kar (2)) a1) (klk (w 4)) y) (zu1 mc (2) (mc (2) + 1)) (zu2 cp (2) c1) cl F H1 := by
  obtain ⟨hD, hV, hL_, hB, -⟩ := h.n
  have hln : zLn w (2) = w (4) := rfl
  have hln' : zLn w' (2) = w' (4) := rfl
  have hlo : ∀ l8 : Int, l8 ≠ 2 → 0 ≤ l8 → l8 < 3 + w 2 → zLn w' l8 = zLn w l8 := fun l8 x1 x2 x3 => by
    unfold zLn
    by_cases q0 : l8 = 0
    · rw [if_pos q0, if_pos q0]; first | exact hw _ (by omega) | omega
    · rw [if_neg q0, if_neg q0]
      by_cases q1 : l8 = 1
      · rw [if_pos q1, if_pos q1]; first | exact hw _ (by omega) | omega
      · rw [if_neg q1, if_neg q1]
        by_cases q2 : l8 = 2
        · rw [if_pos q2, if_pos q2]; first | exact hw _ (by omega) | omega
        · rw [if_neg q2, if_neg q2]; exact hw _ (by omega)
  have e2 : w' 2 = w 2 := hw 2 (by omega)
  have hlr : (0 : Int) ≤ 2 ∧ 2 < 3 + w 2 := by omega
  refine h.add (l := 2) hlr (fun k => k = klk (w 4)) (a1 := a1) (c1 := c1) (el' := el1) ?_ (((zpt_n (kne (by omega))).trans zpt_s)) ?_ ?_ ?_ ?_ ?_ ?_ (by rw [hln]; exact hL) ?_ (by rw [hln]; exact ha1) hFa ?_ (by rw [hln]; exact hq) zu1_s zu2_s (by rw [hln, hln']; exact hn) ?_ ⟨hD', hV', hL', hB', hin⟩
  · intro k x1 x2
    exact (zpt_n (fun q => x1 (q))).trans (zpt_n x2)
  · rintro k x1 x2
    subst x2; simp only [zlive] at x1; omega
  · intro x2
    exact absurd x2 (kne (by omega))
  · intro k hk
    match k, hk with
    | (0, i8, j8), hk =>
      simp only [zlive] at hk
      exact Or.inr (Or.inl hk)
    | (1, l8, j8), hk =>
      simp only [zlive] at hk
      exact Or.inr (Or.inl ⟨⟨by omega, by omega⟩, hk.2⟩)
    | (2, l8, j8), hk =>
      simp only [zlive] at hk
      exact Or.inr (Or.inl ⟨⟨by omega, by omega⟩, hk.2⟩)
    | (3, l8, j8), hk =>
      simp only [zlive] at hk
      by_cases e : l8 = 2
      · exact Or.inr (Or.inr (by rw [e, hk.2]))
      · rw [zu2_n e] at hk
        exact Or.inr (Or.inl ⟨⟨⟨by omega, by omega⟩, hk.1.2⟩, hk.2⟩)
    | (4, d8, j8), hk =>
      simp only [zlive] at hk
      exact Or.inr (Or.inl ⟨⟨by omega, by omega⟩, hk.2⟩)
    | (5, d8, j8), hk =>
      simp only [zlive] at hk
      exact Or.inr (Or.inl ⟨⟨by omega, by omega⟩, hk.2⟩)
    | (6, d8, b8), hk =>
      simp only [zlive] at hk
      have y := hB d8 (by omega) (by omega)
      have y2 := hw (5 + 32 * d8 + 1) (by omega)
      exact Or.inr (Or.inl ⟨⟨by omega, by omega⟩, by omega, by omega⟩)
    | (7, d8, b8), hk =>
      simp only [zlive] at hk
      have y := hB d8 (by omega) (by omega)
      have y2 := hw (5 + 32 * d8 + 1) (by omega)
      have y3 := hw (5 + 32 * d8 + 8 + 8 * b8 + 1) (by omega)
      exact Or.inr (Or.inl ⟨⟨⟨by omega, by omega⟩, by omega, by omega⟩, by rw [← y3]; exact hk.2⟩)
    | (8, d8, b8), hk =>
      simp only [zlive] at hk
      have y := hB d8 (by omega) (by omega)
      have y2 := hw (5 + 32 * d8 + 1) (by omega)
      have y3 := hw (5 + 32 * d8 + 8 + 8 * b8 + 1) (by omega)
      exact Or.inr (Or.inl ⟨⟨⟨by omega, by omega⟩, by omega, by omega⟩, by rw [← y3]; exact hk.2⟩)
    | (9, v8, j8), hk =>
      simp only [zlive] at hk
      have y := hw 3 (by omega)
      exact Or.inr (Or.inl ⟨⟨by omega, by omega⟩, hk.2⟩)
    | (10, v8, j8), hk =>
      simp only [zlive] at hk
      have y := hw 3 (by omega)
      exact Or.inr (Or.inl ⟨⟨by omega, by omega⟩, hk.2⟩)
    | (11, k8, j8), hk =>
      simp only [zlive] at hk
      by_cases e : k8 = w 4
      · exact Or.inl (by rw [e, hk.2])
      · exact Or.inr (Or.inl ⟨⟨by omega, by omega⟩, hk.2⟩)
  · intro k hk x2
    subst x2
    rw [zpt_s]
    show zO G H1 y 12 [.int (iI (w' (801 + 3 * w 4))), .int (iI (zLt w' (w 4))), .int (iI (w' (801 + 3 * w 4 + 1))), va_rf (zLv w' (zpt (zpt ad (kar 2) a1) (klk (w 4)) y) (w 4))]
    rw [show zLv w' (zpt (zpt ad (kar 2) a1) (klk (w 4)) y) (w 4) = zLv w' ad (w 4) by unfold zLv; rw [(((zpt_n (kne (by omega))).trans (zpt_n (kne (by omega)))))]]
    exact hy
  · intro k hk x2
    subst x2
    exact ⟨fun k0 x3 => by rw [zpt_s]; exact hny k0 x3, by rw [zpt_s]; exact hFy, by rw [zpt_s]; exact hya⟩
  · intro k k' _ _ x1 x2 e
    rw [x1, x2]
  · intro i hi
    rw [hln] at hi
    by_cases e : (i : Int) = w (4)
    · rw [show i = (w (4)).toNat by omega, hel9, show zLk (2) (((w (4)).toNat : Nat) : Int) = klk (w 4) by rw [show (((w (4)).toNat : Nat) : Int) = w (4) by omega]; rfl]
      exact zpt_s.symm
    · rw [hel i (by omega)]
      have hz : zLk (2) (i : Int) = klk (i : Int) := rfl
      rw [hz]
      exact (((zpt_n (kne (by omega))).trans (zpt_n (kne (by omega))))).symm
  · intro k hk' hk x1 x2
    match k, hk', hk, x1, x2 with
    | (0, i8, j8), hk', hk, x1, x2 =>
      exact ⟨hw _ (by omega), hw _ (by omega), (((zpt_n (kne (by omega))).trans (zpt_n (kne (by omega))))), (((zpt_n (kne (by omega))).trans (zpt_n (kne (by omega))))), (((zpt_n (kne (by omega))).trans (zpt_n (kne (by omega)))))⟩
    | (1, l8, j8), hk', hk, x1, x2 =>
      simp only [zlive] at hk hk'
      exact (((zpt_n (kne (by omega))).trans (zpt_n (kne (by omega)))))
    | (2, l8, j8), hk', hk, x1, x2 =>
      simp only [zlive] at hk hk'
      have y := knn2 x1
      exact ⟨hlo _ (by omega) (by omega) (by omega), zu1_n (by omega), (((zpt_n (kne (by omega))).trans (zpt_n (kne (by omega)))))⟩
    | (3, l8, j8), hk', hk, x1, x2 =>
      simp only [zlive] at hk hk'
      have y := knn2 x2
      have y2 : l8 ≠ 2 := by omega
      exact ⟨hlo _ (by omega) (by omega) (by omega), zu2_n (by omega), fun i8 hi8 => (((zpt_n (zLk_ne11 y2)).trans (zpt_n (zLk_neA (by decide)))))⟩
    | (4, d8, j8), hk', hk, x1, x2 =>
      simp only [zlive] at hk hk'
      have y := hB d8 (by omega) (by omega)
      exact ⟨hw _ (by omega), (((zpt_n (kne (by omega))).trans (zpt_n (kne (by omega))))), (((zpt_n (kne (by omega))).trans (zpt_n (kne (by omega)))))⟩
    | (5, d8, j8), hk', hk, x1, x2 =>
      simp only [zlive] at hk hk'
      have y := hB d8 (by omega) (by omega)
      exact ⟨hw _ (by omega), fun p8 z1 z2 => hw _ (by omega)⟩
    | (6, d8, b8), hk', hk, x1, x2 =>
      simp only [zlive] at hk hk'
      have y := hB d8 (by omega) (by omega)
      have z := hRf d8 b8 (by omega) (by omega) (by omega) (by omega)
      refine ⟨?_, ?_⟩
      · unfold zOg
        rw [hw _ (by omega)]
        split
        · rfl
        · exact congrArg some (((zpt_n (kne (by omega))).trans (zpt_n (kne (by omega)))))
      · unfold zCy
        rw [hw _ (by omega)]
        split
        · rfl
        · exact congrArg some (((zpt_n (kne (by omega))).trans (zpt_n (kne (by omega)))))
    | (7, d8, b8), hk', hk, x1, x2 =>
      simp only [zlive] at hk hk'
      have y := hB d8 (by omega) (by omega)
      have z := hRf d8 b8 (by omega) (by omega) (by omega) (by omega)
      have z2 := z.2 hk.2
      exact ⟨hw _ (by omega), hw _ (by omega), hw _ (by omega), (((zpt_n (kne (by omega))).trans (zpt_n (kne (by omega))))), (((zpt_n (kne (by omega))).trans (zpt_n (kne (by omega)))))⟩
    | (8, d8, b8), hk', hk, x1, x2 =>
      simp only [zlive] at hk hk'
      have y := hB d8 (by omega) (by omega)
      exact fun j9 z1 z2 => hw _ (by omega)
    | (9, v8, j8), hk', hk, x1, x2 =>
      simp only [zlive] at hk hk'
      exact ⟨hw _ (by omega), hw _ (by omega), hw _ (by omega), hw _ (by omega), hw _ (by omega), (((zpt_n (kne (by omega))).trans (zpt_n (kne (by omega)))))⟩
    | (10, v8, j8), hk', hk, x1, x2 =>
      simp only [zlive] at hk hk'
      exact fun j9 z1 z2 => hw _ (by omega)
    | (11, k8, j8), hk', hk, x1, x2 =>
      simp only [zlive] at hk hk'
      have a1_ : w' (801 + 3 * k8 + 1) = w (801 + 3 * k8 + 1) := hw _ (by omega)
      have a2_ : w' (801 + 3 * k8 + 2) = w (801 + 3 * k8 + 2) := hw _ (by omega)
      refine ⟨hw _ (by omega), a1_, ?_, ?_⟩
      · unfold zLt
        rw [a1_, a2_]
        split
        · have y := hLk k8 (by omega) (by omega) (by assumption)
          exact hw _ (by omega)
        · rfl
      · unfold zLv
        rw [a1_, a2_]
        split
        · have y := hLk k8 (by omega) (by omega) (by assumption)
          exact congrArg some (((zpt_n (kne (by omega))).trans (zpt_n (kne (by omega)))))
        · rfl
    | (n8 + 12, i8, j8), hk', hk, x1, x2 =>
      exact trivial
  · intro l8 z1 z2
    by_cases e : l8 = 2
    · subst e
      rw [zu2_s, hln', hn]
      refine ⟨⟨hL.2.2.1.2.1, hc1⟩, fun q => ?_⟩
      have := hL.2.2.1.2.1
      omega
    · rw [zu2_n e, hlo l8 e z1 (by omega)]
      have c9 := h.cap l8 z1 (by omega)
      exact ⟨c9.1, fun q => by rw [← c9.2 q]; exact (((zpt_n (kne (by omega))).trans (zpt_n (kne (by omega)))))⟩
theorem zR.addBranch {G : zG} {w w' : Int → Int} {ad : zKey → Nat} {mc : Int → Int} {cp : Int → Nat} {cl : Bool} {F : Nat → Prop} {H H1 : Heap} (h : zR G w ad mc cp cl F H) {y : Nat} {d : Int} {a1 c1 : Nat} {el1 : Nat → Nat} (hd : 0 ≤ d ∧ d < w 2) (hlt : w (5 + 32 * d + 1) < 3) (hfr : w (5 + 32 * d + 8 + 8 * w (5 + 32 * d + 1) + 1) = 0) (hLk : tLk w) (hRf : tRf w) (hw : ∀ c : Int, c ≠ 5 + 32 * d + 1 ∧ c ≠ 5 + 32 * d + 8 + 8 * w (5 + 32 * d + 1) → w' c = w c) (hin : ∀ k, inR (w' k)) (hn : w' (5 + 32 * d + 1) = w (5 + 32 * d + 1) + 1)
    (hL : zLst G H1 (ad (kal (3 + d))) a1 (mc (3 + d) + 1) (w (5 + 32 * d + 1) + 1) c1 el1) (hel : ∀ i : Nat, (i : Int) < w (5 + 32 * d + 1) → el1 i = ad (zLk (3 + d) i)) (hel9 : el1 (w (5 + 32 * d + 1)).toNat = y) (ha1 : a1 = ad (kar (3 + d)) ∧ c1 = cp (3 + d) ∧ w (5 + 32 * d + 1) < cp (3 + d) ∨ H.size ≤ a1) (hc1 : c1 ≤ 110) (hFa : H.size ≤ a1 → F a1)
    (hq : ∀ q : Nat, q < H.size → q ≠ ad (kal (3 + d)) → ¬ (w (5 + 32 * d + 1) < cp (3 + d) ∧ q = ad (kar (3 + d))) → H1[q]? = H[q]?) (hne1 : a1 ≠ G.2.2.1 ∨ 0 < c1) (hD' : tD w') (hV' : tV w') (hL' : tL w') (hB' : tB w') (hy : zO G H1 y 9 [va_rf (zOg w' ad d (w (5 + 32 * d + 1))), .null]) (hny : ∀ k, zlive w cp k → ad k ≠ y) (hFy : F y) (hya : y ≠ a1) : zR G w' (zpt (zpt ad (kar (3 + d)) a1) (kbr d (w (5 + 32 * d + 1))) y) (zu1 mc (3 + d) (mc (3 + d) + 1)) (zu2 cp (3 + d) c1) cl F H1 := by
  obtain ⟨hD, hV, hL_, hB, -⟩ := h.n
  have hbd := hB d hd.1 hd.2
  have hln : zLn w (3 + d) = w (5 + 32 * d + 1) := zLn_b hd.1
  have hln' : zLn w' (3 + d) = w' (5 + 32 * d + 1) := zLn_b hd.1
  have hlo : ∀ l8 : Int, l8 ≠ 3 + d → 0 ≤ l8 → l8 < 3 + w 2 → zLn w' l8 = zLn w l8 := fun l8 x1 x2 x3 => by
    unfold zLn
    by_cases q0 : l8 = 0
    · rw [if_pos q0, if_pos q0]; first | exact hw _ (by omega) | omega
    · rw [if_neg q0, if_neg q0]
      by_cases q1 : l8 = 1
      · rw [if_pos q1, if_pos q1]; first | exact hw _ (by omega) | omega
      · rw [if_neg q1, if_neg q1]
        by_cases q2 : l8 = 2
        · rw [if_pos q2, if_pos q2]; first | exact hw _ (by omega) | omega
        · rw [if_neg q2, if_neg q2]; exact hw _ (by omega)
  have e2 : w' 2 = w 2 := hw 2 (by omega)
  have hlr : (0 : Int) ≤ 3 + d ∧ 3 + d < 3 + w 2 := by omega
  refine h.add (l := 3 + d) hlr (fun k => k = kbr d (w (5 + 32 * d + 1))) (a1 := a1) (c1 := c1) (el' := el1) ?_ (((zpt_n (kne (by omega))).trans zpt_s)) ?_ ?_ ?_ ?_ ?_ ?_ (by rw [hln]; exact hL) ?_ (by rw [hln]; exact ha1) hFa ?_ (by rw [hln]; exact hq) zu1_s zu2_s (by rw [hln, hln']; exact hn) ?_ ⟨hD', hV', hL', hB', hin⟩
  · intro k x1 x2
    exact (zpt_n (fun q => x1 (q))).trans (zpt_n x2)
  · rintro k x1 x2
    subst x2; simp only [zlive] at x1; omega
  · intro x2
    exact absurd x2 (kne (by omega))
  · intro k hk
    match k, hk with
    | (0, i8, j8), hk =>
      simp only [zlive] at hk
      exact Or.inr (Or.inl hk)
    | (1, l8, j8), hk =>
      simp only [zlive] at hk
      exact Or.inr (Or.inl ⟨⟨by omega, by omega⟩, hk.2⟩)
    | (2, l8, j8), hk =>
      simp only [zlive] at hk
      exact Or.inr (Or.inl ⟨⟨by omega, by omega⟩, hk.2⟩)
    | (3, l8, j8), hk =>
      simp only [zlive] at hk
      by_cases e : l8 = 3 + d
      · exact Or.inr (Or.inr (by rw [e, hk.2]))
      · rw [zu2_n e] at hk
        exact Or.inr (Or.inl ⟨⟨⟨by omega, by omega⟩, hk.1.2⟩, hk.2⟩)
    | (4, d8, j8), hk =>
      simp only [zlive] at hk
      exact Or.inr (Or.inl ⟨⟨by omega, by omega⟩, hk.2⟩)
    | (5, d8, j8), hk =>
      simp only [zlive] at hk
      exact Or.inr (Or.inl ⟨⟨by omega, by omega⟩, hk.2⟩)
    | (6, d8, b8), hk =>
      simp only [zlive] at hk
      have y := hB d8 (by omega) (by omega)
      by_cases e : d8 = d ∧ b8 = w (5 + 32 * d + 1)
      · exact Or.inl (by rw [e.1, e.2])
      · refine Or.inr (Or.inl ⟨⟨by omega, by omega⟩, by omega, ?_⟩)
        by_cases ed : d8 = d
        · rw [ed] at hk e ⊢
          omega
        · have y2 := hw (5 + 32 * d8 + 1) (by omega)
          omega
    | (7, d8, b8), hk =>
      simp only [zlive] at hk
      have y := hB d8 (by omega) (by omega)
      by_cases ed : d8 = d
      · rw [ed] at hk ⊢
        have hk2 := hk.1.2.2
        have y3 := hw (5 + 32 * d + 8 + 8 * b8 + 1) (by omega)
        by_cases eb : b8 = w (5 + 32 * d + 1)
        · rw [eb] at hk y3
          exact absurd (y3.trans hfr) hk.2
        · exact Or.inr (Or.inl ⟨⟨⟨by omega, by omega⟩, by omega, by omega⟩, by rw [← y3]; exact hk.2⟩)
      · have y2 := hw (5 + 32 * d8 + 1) (by omega)
        have y3 := hw (5 + 32 * d8 + 8 + 8 * b8 + 1) (by omega)
        exact Or.inr (Or.inl ⟨⟨⟨by omega, by omega⟩, by omega, by omega⟩, by rw [← y3]; exact hk.2⟩)
    | (8, d8, b8), hk =>
      simp only [zlive] at hk
      have y := hB d8 (by omega) (by omega)
      by_cases ed : d8 = d
      · rw [ed] at hk ⊢
        have hk2 := hk.1.2.2
        have y3 := hw (5 + 32 * d + 8 + 8 * b8 + 1) (by omega)
        by_cases eb : b8 = w (5 + 32 * d + 1)
        · rw [eb] at hk y3
          exact absurd (y3.trans hfr) hk.2
        · exact Or.inr (Or.inl ⟨⟨⟨by omega, by omega⟩, by omega, by omega⟩, by rw [← y3]; exact hk.2⟩)
      · have y2 := hw (5 + 32 * d8 + 1) (by omega)
        have y3 := hw (5 + 32 * d8 + 8 + 8 * b8 + 1) (by omega)
        exact Or.inr (Or.inl ⟨⟨⟨by omega, by omega⟩, by omega, by omega⟩, by rw [← y3]; exact hk.2⟩)
    | (9, v8, j8), hk =>
      simp only [zlive] at hk
      have y := hw 3 (by omega)
      exact Or.inr (Or.inl ⟨⟨by omega, by omega⟩, hk.2⟩)
    | (10, v8, j8), hk =>
      simp only [zlive] at hk
      have y := hw 3 (by omega)
      exact Or.inr (Or.inl ⟨⟨by omega, by omega⟩, hk.2⟩)
    | (11, k8, j8), hk =>
      simp only [zlive] at hk
      have y := hw 4 (by omega)
      exact Or.inr (Or.inl ⟨⟨by omega, by omega⟩, hk.2⟩)
  · intro k hk x2
    subst x2
    rw [zpt_s]
    show zO G H1 y 9 [va_rf (zOg w' (zpt (zpt ad (kar (3 + d)) a1) (kbr d (w (5 + 32 * d + 1))) y) d (w (5 + 32 * d + 1))), va_rf (zCy w' (zpt (zpt ad (kar (3 + d)) a1) (kbr d (w (5 + 32 * d + 1))) y) d (w (5 + 32 * d + 1)))]
    rw [show zOg w' (zpt (zpt ad (kar (3 + d)) a1) (kbr d (w (5 + 32 * d + 1))) y) d (w (5 + 32 * d + 1)) = zOg w' ad d (w (5 + 32 * d + 1)) by unfold zOg; rw [(((zpt_n (kne (by omega))).trans (zpt_n (kne (by omega)))))], show zCy w' (zpt (zpt ad (kar (3 + d)) a1) (kbr d (w (5 + 32 * d + 1))) y) d (w (5 + 32 * d + 1)) = none from if_pos ((hw _ (by omega)).trans hfr)]
    exact hy
  · intro k hk x2
    subst x2
    exact ⟨fun k0 x3 => by rw [zpt_s]; exact hny k0 x3, by rw [zpt_s]; exact hFy, by rw [zpt_s]; exact hya⟩
  · intro k k' _ _ x1 x2 e
    rw [x1, x2]
  · intro i hi
    rw [hln] at hi
    by_cases e : (i : Int) = w (5 + 32 * d + 1)
    · rw [show i = (w (5 + 32 * d + 1)).toNat by omega, hel9, show zLk (3 + d) (((w (5 + 32 * d + 1)).toNat : Nat) : Int) = kbr d (w (5 + 32 * d + 1)) by rw [show (((w (5 + 32 * d + 1)).toNat : Nat) : Int) = w (5 + 32 * d + 1) by omega]; exact zLk_b hd.1]
      exact zpt_s.symm
    · rw [hel i (by omega)]
      have hz : zLk (3 + d) (i : Int) = kbr d (i : Int) := zLk_b hd.1
      rw [hz]
      exact (((zpt_n (kne (by omega))).trans (zpt_n (kne (by omega))))).symm
  · intro k hk' hk x1 x2
    match k, hk', hk, x1, x2 with
    | (0, i8, j8), hk', hk, x1, x2 =>
      exact ⟨hw _ (by omega), hw _ (by omega), (((zpt_n (kne (by omega))).trans (zpt_n (kne (by omega))))), (((zpt_n (kne (by omega))).trans (zpt_n (kne (by omega))))), (((zpt_n (kne (by omega))).trans (zpt_n (kne (by omega)))))⟩
    | (1, l8, j8), hk', hk, x1, x2 =>
      simp only [zlive] at hk hk'
      exact (((zpt_n (kne (by omega))).trans (zpt_n (kne (by omega)))))
    | (2, l8, j8), hk', hk, x1, x2 =>
      simp only [zlive] at hk hk'
      have y := knn2 x1
      exact ⟨hlo _ (by omega) (by omega) (by omega), zu1_n (by omega), (((zpt_n (kne (by omega))).trans (zpt_n (kne (by omega)))))⟩
    | (3, l8, j8), hk', hk, x1, x2 =>
      simp only [zlive] at hk hk'
      have y := knn2 x2
      have y2 : l8 ≠ 3 + d := by omega
      exact ⟨hlo _ (by omega) (by omega) (by omega), zu2_n (by omega), fun i8 hi8 => (((zpt_n (zLk_ne6 y2)).trans (zpt_n (zLk_neA (by decide)))))⟩
    | (4, d8, j8), hk', hk, x1, x2 =>
      simp only [zlive] at hk hk'
      have y := hB d8 (by omega) (by omega)
      exact ⟨hw _ (by omega), (((zpt_n (kne (by omega))).trans (zpt_n (kne (by omega))))), (((zpt_n (kne (by omega))).trans (zpt_n (kne (by omega)))))⟩
    | (5, d8, j8), hk', hk, x1, x2 =>
      simp only [zlive] at hk hk'
      have y := hB d8 (by omega) (by omega)
      exact ⟨hw _ (by omega), fun p8 z1 z2 => hw _ (by omega)⟩
    | (6, d8, b8), hk', hk, x1, x2 =>
      simp only [zlive] at hk hk'
      have yd : d8 ≠ d ∨ b8 < w (5 + 32 * d + 1) := if e : d8 = d then Or.inr (by rw [← e]; omega) else Or.inl e
      have y := hB d8 (by omega) (by omega)
      have z := hRf d8 b8 (by omega) (by omega) (by omega) (by omega)
      refine ⟨?_, ?_⟩
      · unfold zOg
        rw [hw _ (by omega)]
        split
        · rfl
        · exact congrArg some (((zpt_n (kne (by omega))).trans (zpt_n (kne (by omega)))))
      · unfold zCy
        rw [hw _ (by omega)]
        split
        · rfl
        · exact congrArg some (((zpt_n (kne (by omega))).trans (zpt_n (kne (by omega)))))
    | (7, d8, b8), hk', hk, x1, x2 =>
      simp only [zlive] at hk hk'
      have yd : d8 ≠ d ∨ b8 < w (5 + 32 * d + 1) := if e : d8 = d then Or.inr (by rw [← e]; omega) else Or.inl e
      have y := hB d8 (by omega) (by omega)
      have z := hRf d8 b8 (by omega) (by omega) (by omega) (by omega)
      have z2 := z.2 hk.2
      exact ⟨hw _ (by omega), hw _ (by omega), hw _ (by omega), (((zpt_n (kne (by omega))).trans (zpt_n (kne (by omega))))), (((zpt_n (kne (by omega))).trans (zpt_n (kne (by omega)))))⟩
    | (8, d8, b8), hk', hk, x1, x2 =>
      simp only [zlive] at hk hk'
      have yd : d8 ≠ d ∨ b8 < w (5 + 32 * d + 1) := if e : d8 = d then Or.inr (by rw [← e]; omega) else Or.inl e
      have y := hB d8 (by omega) (by omega)
      exact fun j9 z1 z2 => hw _ (by omega)
    | (9, v8, j8), hk', hk, x1, x2 =>
      simp only [zlive] at hk hk'
      exact ⟨hw _ (by omega), hw _ (by omega), hw _ (by omega), hw _ (by omega), hw _ (by omega), (((zpt_n (kne (by omega))).trans (zpt_n (kne (by omega)))))⟩
    | (10, v8, j8), hk', hk, x1, x2 =>
      simp only [zlive] at hk hk'
      exact fun j9 z1 z2 => hw _ (by omega)
    | (11, k8, j8), hk', hk, x1, x2 =>
      simp only [zlive] at hk hk'
      have a1_ : w' (801 + 3 * k8 + 1) = w (801 + 3 * k8 + 1) := hw _ (by omega)
      have a2_ : w' (801 + 3 * k8 + 2) = w (801 + 3 * k8 + 2) := hw _ (by omega)
      refine ⟨hw _ (by omega), a1_, ?_, ?_⟩
      · unfold zLt
        rw [a1_, a2_]
        split
        · have y := hLk k8 (by omega) (by omega) (by assumption)
          exact hw _ (by omega)
        · rfl
      · unfold zLv
        rw [a1_, a2_]
        split
        · have y := hLk k8 (by omega) (by omega) (by assumption)
          exact congrArg some (((zpt_n (kne (by omega))).trans (zpt_n (kne (by omega)))))
        · rfl
    | (n8 + 12, i8, j8), hk', hk, x1, x2 =>
      exact trivial
  · intro l8 z1 z2
    by_cases e : l8 = 3 + d
    · subst e
      rw [zu2_s, hln', hn]
      refine ⟨⟨hL.2.2.1.2.1, hc1⟩, fun q => ?_⟩
      have := hL.2.2.1.2.1
      omega
    · rw [zu2_n e, hlo l8 e z1 (by omega)]
      have c9 := h.cap l8 z1 (by omega)
      exact ⟨c9.1, fun q => by rw [← c9.2 q]; exact (((zpt_n (kne (by omega))).trans (zpt_n (kne (by omega)))))⟩
