set_option maxRecDepth 100000
/-! CHANGES OF THE STORE -/
/-- nothing that the key k shows has changed -/
def zsm (w w' : Int → Int) (ad ad' : zKey → Nat) (mc mc' : Int → Int) (cp cp' : Int → Nat) : zKey → Prop
  | (0, _, _) => w' 0 = w 0 ∧ w' 1 = w 1 ∧ ad' (krow 0) = ad (krow 0) ∧ ad' (krow 1) = ad (krow 1) ∧ ad' (krow 2) = ad (krow 2)
  | (1, l, _) => ad' (kal l) = ad (kal l)
  | (2, l, _) => zLn w' l = zLn w l ∧ mc' l = mc l ∧ ad' (kar l) = ad (kar l)
  | (3, l, _) => zLn w' l = zLn w l ∧ cp' l = cp l ∧ ∀ i : Nat, (i : Int) < zLn w l → ad' (zLk l i) = ad (zLk l i)
  | (4, d, _) => w' (5 + 32 * d) = w (5 + 32 * d) ∧ ad' (krt d) = ad (krt d) ∧ ad' (krow (3 + d)) = ad (krow (3 + d))
  | (5, d, _) => w' (5 + 32 * d) = w (5 + 32 * d) ∧ ∀ p : Int, 0 ≤ p → p < 6 → w' (5 + 32 * d + 2 + p) = w (5 + 32 * d + 2 + p)
  | (6, d, b) => zOg w' ad' d b = zOg w ad d b ∧ zCy w' ad' d b = zCy w ad d b
  | (7, d, b) => w' (5 + 32 * d + 8 + 8 * b + 1) = w (5 + 32 * d + 8 + 8 * b + 1) ∧ w' (5 + 32 * d + 8 + 8 * b + 2) = w (5 + 32 * d + 8 + 8 * b + 2) ∧ w' (5 + 32 * d + 8 + 8 * b + 3) = w (5 + 32 * d + 8 + 8 * b + 3) ∧ ad' (kcv d b) = ad (kcv d b) ∧ ad' (kver (w (5 + 32 * d + 8 + 8 * b + 3))) = ad (kver (w (5 + 32 * d + 8 + 8 * b + 3)))
  | (8, d, b) => ∀ j : Int, 0 ≤ j → j < 4 → w' (5 + 32 * d + 8 + 8 * b + 4 + j) = w (5 + 32 * d + 8 + 8 * b + 4 + j)
  | (9, v, _) => w' (261 + 9 * v) = w (261 + 9 * v) ∧ w' (261 + 9 * v + 1) = w (261 + 9 * v + 1) ∧ w' (261 + 9 * v + 2) = w (261 + 9 * v + 2) ∧ w' (261 + 9 * v + 3) = w (261 + 9 * v + 3) ∧ w' (261 + 9 * v + 8) = w (261 + 9 * v + 8) ∧ ad' (kvv v) = ad (kvv v)
  | (10, v, _) => ∀ j : Int, 0 ≤ j → j < 4 → w' (261 + 9 * v + 4 + j) = w (261 + 9 * v + 4 + j)
  | (11, k, _) => w' (801 + 3 * k) = w (801 + 3 * k) ∧ w' (801 + 3 * k + 1) = w (801 + 3 * k + 1) ∧ zLt w' k = zLt w k ∧ zLv w' ad' k = zLv w ad k
  | (_ + 12, _, _) => True
theorem zsm_at {G : zG} {w w' : Int → Int} {ad ad' : zKey → Nat} {mc mc' : Int → Int} {cp cp' : Int → Nat} {cl : Bool} {H : Heap} : ∀ (k : zKey), va_at G.1 zcl (ad k, zcont G w ad mc cp cl k) H → zsm w w' ad ad' mc mc' cp cp' k → va_at G.1 zcl (ad k, zcont G w' ad' mc' cp' cl k) H
  | (0, i, j), h, ⟨a1, a2, a3, a4, a5⟩ => by
    simp only [zcont] at h ⊢
    rw [a1, a2, a3, a4, a5]; exact h
  | (1, l, j), h, a1 => by
    simp only [zcont, zsm] at h a1 ⊢
    rw [a1]; exact h
  | (2, l, j), h, ⟨a1, a2, a3⟩ => by
    simp only [zcont] at h ⊢
    rw [a1, a2, a3]; exact h
  | (3, l, j), h, ⟨a1, a2, a3⟩ => by
    simp only [zcont] at h ⊢
    rw [a1, a2]
    refine zAO_congr h (fun i _ => ?_)
    unfold zEf
    split
    · exact congrArg some (a3 i (by assumption)).symm
    · rfl
  | (4, d, j), h, ⟨a1, a2, a3⟩ => by
    simp only [zcont] at h ⊢
    rw [a1, a2, a3]; exact h
  | (5, d, j), h, ⟨a1, a2⟩ => by
    simp only [zcont] at h ⊢
    refine zF_congr h (fun p h1 h2 => ?_)
    unfold zRt
    rw [a1, a2 p h1 h2]
  | (6, d, b), h, ⟨a1, a2⟩ => by
    simp only [zcont] at h ⊢
    rw [a1, a2]; exact h
  | (7, d, b), h, ⟨a1, a2, a3, a4, a5⟩ => by
    simp only [zcont] at h ⊢
    rw [a1, a2, a3, a4, a5]; exact h
  | (8, d, b), h, a1 => by
    simp only [zcont, zsm] at h a1 ⊢
    exact zF_congr h (fun p h1 h2 => (a1 p h1 h2).symm)
  | (9, v, j), h, ⟨a1, a2, a3, a4, a5, a6⟩ => by
    simp only [zcont] at h ⊢
    have e : zGn w' v = zGn w v := by unfold zGn; rw [a5]
    rw [a1, a2, a3, a4, e, a6]; exact h
  | (10, v, j), h, a1 => by
    simp only [zcont, zsm] at h a1 ⊢
    exact zF_congr h (fun p h1 h2 => (a1 p h1 h2).symm)
  | (11, k, j), h, ⟨a1, a2, a3, a4⟩ => by
    simp only [zcont] at h ⊢
    rw [a1, a2, a3, a4]; exact h
  | (_ + 12, i, j), h, _ => h
theorem zR.step {G : zG} {w w' : Int → Int} {ad ad' : zKey → Nat} {mc mc' : Int → Int} {cp cp' : Int → Nat} {cl : Bool} {F : Nat → Prop} {H H1 : Heap} (h : zR G w ad mc cp cl F H) (tch : zKey → Prop) (Nw : Nat → Prop) (hNw : ∀ k, zlive w cp k → ¬ Nw (ad k))
    (h1 : ∀ k, zlive w' cp' k → tch k → va_at G.1 zcl (ad' k, zcont G w' ad' mc' cp' cl k) H1)
    (h2 : ∀ k, zlive w' cp' k → ¬ tch k → zlive w cp k ∧ ad' k = ad k ∧ zsm w w' ad ad' mc mc' cp cp' k ∧ H1[ad k]? = H[ad k]?)
    (h3 : ∀ k, zlive w' cp' k → tch k → (zlive w cp k ∧ ad' k = ad k) ∨ (Nw (ad' k) ∧ F (ad' k)))
    (h4 : ∀ k k', zlive w' cp' k → zlive w' cp' k' → Nw (ad' k) → ad' k = ad' k' → k = k')
    (h5 : ∀ l, 0 ≤ l → l < 3 + w' 2 → (zLn w' l ≤ cp' l ∧ cp' l ≤ 110) ∧ (cp' l = 0 → ad' (kar l) = G.2.2.1))
    (h6 : tD w' ∧ tV w' ∧ tL w' ∧ tB w' ∧ ∀ k, inR (w' k)) : zR G w' ad' mc' cp' cl F H1 := by
  have h7 : ∀ k, zlive w' cp' k → (zlive w cp k ∧ ad' k = ad k) ∨ (Nw (ad' k) ∧ F (ad' k)) := fun k hk => by
    by_cases t : tch k
    · exact h3 k hk t
    · exact Or.inl ⟨(h2 k hk t).1, (h2 k hk t).2.1⟩
  refine ⟨fun k hk => ?_, fun k k' hk hk' e => ?_, fun k hk => ?_, h.nE, h5, h6⟩
  · by_cases t : tch k
    · exact h1 k hk t
    · obtain ⟨a1, a2, a3, a4⟩ := h2 k hk t
      rw [a2]
      exact va_at.kept (zsm_at k (h.at_ k a1) a3) a4
  · rcases h7 k hk with ⟨a1, a2⟩ | ⟨a1, -⟩
    · rcases h7 k' hk' with ⟨b1, b2⟩ | ⟨b1, -⟩
      · exact h.inj k k' a1 b1 (by rw [← a2, ← b2]; exact e)
      · exact (h4 k' k hk' hk b1 e.symm).symm
    · exact h4 k k' hk hk' a1 e
  · rcases h7 k hk with ⟨a1, a2⟩ | ⟨-, a1⟩
    · rw [a2]; exact h.fp k a1
    · exact a1
/-- one cell of the heap changes, and none is new -/
theorem zR.step1 {G : zG} {w w' : Int → Int} {ad : zKey → Nat} {mc : Int → Int} {cp : Int → Nat} {cl : Bool} {F : Nat → Prop} {H H1 : Heap} (h : zR G w ad mc cp cl F H) (k0 : zKey) (hk0 : zlive w cp k0)
    (hl : ∀ k, zlive w' cp k → zlive w cp k) (hs : ∀ k, zlive w' cp k → k ≠ k0 → zsm w w' ad ad mc mc cp cp k)
    (h1 : va_at G.1 zcl (ad k0, zcont G w' ad mc cp cl k0) H1) (hq : ∀ q : Nat, q ≠ ad k0 → H1[q]? = H[q]?) (hln : ∀ l, 0 ≤ l → l < 3 + w' 2 → zLn w' l = zLn w l) (h2 : w' 2 = w 2)
    (h6 : tD w' ∧ tV w' ∧ tL w' ∧ tB w' ∧ ∀ k, inR (w' k)) : zR G w' ad mc cp cl F H1 := by
  refine h.step (fun k => k = k0) (fun _ => False) (fun _ _ q => q) (fun k hk e => by rw [e]; exact h1) (fun k hk e => ⟨hl k hk, rfl, hs k hk e, hq _ fun q => e (h.inj k k0 (hl k hk) hk0 q)⟩) (fun k hk e => Or.inl ⟨hl k hk, rfl⟩)
    (fun k k' hk hk' hge => hge.elim) (fun l h0 hlt => ?_) h6
  rw [hln l h0 hlt]
  exact h.cap l h0 (by omega)

/-- a row grows by one thing; nw: the keys that are new -/
theorem zR.add {G : zG} {w w' : Int → Int} {ad ad' : zKey → Nat} {mc mc' : Int → Int} {cp cp' : Int → Nat} {cl : Bool} {F : Nat → Prop} {H H1 : Heap} (h : zR G w ad mc cp cl F H) {l : Int} (hl : 0 ≤ l ∧ l < 3 + w 2) (nw : zKey → Prop) {a1 c1 : Nat} {el' : Nat → Nat}
    (ha : ∀ k, ¬ nw k → k ≠ kar l → ad' k = ad k) (har : ad' (kar l) = a1) (hnl : ∀ k, zlive w cp k → ¬ nw k) (hnr : ¬ nw (kar l)) (hlv : ∀ k, zlive w' cp' k → nw k ∨ zlive w cp k ∨ k = kar l)
    (hct : ∀ k, zlive w' cp' k → nw k → va_at G.1 zcl (ad' k, zcont G w' ad' mc' cp' cl k) H1)
    (hfr : ∀ k, zlive w' cp' k → nw k → (∀ k0, zlive w cp k0 → ad k0 ≠ ad' k) ∧ F (ad' k) ∧ ad' k ≠ a1)
    (hni : ∀ k k', zlive w' cp' k → zlive w' cp' k' → nw k → nw k' → ad' k = ad' k' → k = k')
    (hL : zLst G H1 (ad (kal l)) a1 (mc l + 1) (zLn w l + 1) c1 el') (hel : ∀ i : Nat, (i : Int) < zLn w l + 1 → el' i = ad' (zLk l i)) (ha1 : (a1 = ad (kar l) ∧ c1 = cp l ∧ zLn w l < cp l) ∨ H.size ≤ a1) (hFa : H.size ≤ a1 → F a1)
    (hsm : ∀ k, zlive w' cp' k → zlive w cp k → k ≠ kal l → k ≠ kar l → zsm w w' ad ad' mc mc' cp cp' k) (hq : ∀ q : Nat, q < H.size → q ≠ ad (kal l) → ¬ (zLn w l < cp l ∧ q = ad (kar l)) → H1[q]? = H[q]?)
    (hmc : mc' l = mc l + 1) (hcp : cp' l = c1) (hln : zLn w' l = zLn w l + 1)
    (h5 : ∀ l, 0 ≤ l → l < 3 + w' 2 → (zLn w' l ≤ cp' l ∧ cp' l ≤ 110) ∧ (cp' l = 0 → ad' (kar l) = G.2.2.1))
    (h6 : tD w' ∧ tV w' ∧ tL w' ∧ tB w' ∧ ∀ k, inR (w' k)) : zR G w' ad' mc' cp' cl F H1 := by
  have hkal : zlive w cp (kal l) := ⟨hl, rfl⟩
  have hne : (kal l) ≠ kar l := fun q => by cases q
  have hadl : ad' (kal l) = ad (kal l) := ha _ (hnl _ hkal) hne
  have hNw : ∀ k, zlive w cp k → ¬ ((∃ k2, nw k2 ∧ zlive w' cp' k2 ∧ ad k = ad' k2) ∨ (ad k = a1 ∧ H.size ≤ a1)) := fun k hk q => by
    rcases q with ⟨k2, q1, q2, q3⟩ | ⟨q1, q2⟩
    · exact (hfr k2 q2 q1).1 k hk q3
    · have := h.lt hk
      omega
  have hold : ∀ k, zlive w cp k → k ≠ kar l → ad' k = ad k := fun k hk e => ha k (hnl k hk) e
  refine h.step (fun k => nw k ∨ k = kal l ∨ k = kar l) (fun q => (∃ k2, nw k2 ∧ zlive w' cp' k2 ∧ q = ad' k2) ∨ (q = a1 ∧ H.size ≤ a1)) hNw ?_ ?_ ?_ ?_ h5 h6
  · intro k hk e
    rcases e with e | rfl | rfl
    · exact hct k hk e
    · rw [hadl]
      show zO G H1 (ad (kal l)) 35 [.int (iI (mc' l)), .ref (ad' (kar l)), .int (iI (zLn w' l))]
      rw [hmc, har, hln]
      exact hL.1
    · rw [har]
      show zAO G H1 a1 (cp' l) (zEf (zLn w' l) (zLe ad' l))
      rw [hcp, hln]
      refine zAO_congr hL.2.1 (fun i _ => ?_)
      unfold zEf
      split
      · exact congrArg some (hel i (by assumption))
      · rfl
  · intro k hk e
    have e1 : ¬ nw k := fun q => e (Or.inl q)
    have e2 : k ≠ kal l := fun q => e (Or.inr (Or.inl q))
    have e3 : k ≠ kar l := fun q => e (Or.inr (Or.inr q))
    have hk0 : zlive w cp k := by
      rcases hlv k hk with q | q | q
      · exact absurd q e1
      · exact q
      · exact absurd q e3
    refine ⟨hk0, hold k hk0 e3, hsm k hk hk0 e2 e3, hq _ (h.lt hk0) (fun q => e2 (h.inj _ _ hk0 hkal q)) (fun q => ?_)⟩
    obtain ⟨q1, q2⟩ := q
    have hn := h.ln hl
    exact e3 (h.inj _ _ hk0 ⟨⟨hl, by omega⟩, rfl⟩ q2)
  · intro k hk e
    rcases e with e | rfl | rfl
    · exact Or.inr ⟨Or.inl ⟨k, e, hk, rfl⟩, (hfr k hk e).2.1⟩
    · exact Or.inl ⟨hkal, hadl⟩
    · rcases ha1 with ⟨q1, q2, q3⟩ | q
      · have hn := h.ln hl
        exact Or.inl ⟨⟨⟨hl, by omega⟩, rfl⟩, by rw [har, q1]⟩
      · exact Or.inr ⟨Or.inr ⟨har, q⟩, by rw [har]; exact hFa q⟩
  · intro k k' hk hk' hw e
    have key : ∀ k, zlive w' cp' k → ((∃ k2, nw k2 ∧ zlive w' cp' k2 ∧ ad' k = ad' k2) ∨ (ad' k = a1 ∧ H.size ≤ a1)) → nw k ∨ k = kar l := fun k hk q => by
      rcases hlv k hk with z | z | z
      · exact Or.inl z
      · by_cases z2 : k = kar l
        · exact Or.inr z2
        · exfalso
          apply hNw k z
          rw [← hold k z z2]
          exact q
      · exact Or.inr z
    have k1 := key k hk hw
    have k2 := key k' hk' (by rw [← e]; exact hw)
    rcases k1 with k1 | rfl
    · rcases k2 with k2 | rfl
      · exact hni k k' hk hk' k1 k2 e
      · exact absurd (e.trans har) (hfr k hk k1).2.2
    · rcases k2 with k2 | k2
      · exact absurd (e.symm.trans har) (hfr k' hk' k2).2.2
      · exact k2.symm
theorem knn2 {t : Nat} {i j i' j' : Int} (h : ((t, i, j) : zKey) ≠ (t, i', j')) : i ≠ i' ∨ j ≠ j' := by
  by_cases a : i = i'
  · by_cases b : j = j'
    · exact absurd (by rw [a, b]) h
    · exact Or.inr b
  · exact Or.inl a
theorem zlive_le {w w' : Int → Int} {cp : Int → Nat} (h2 : w' 2 = w 2) (h3 : w' 3 = w 3) (h4 : w' 4 = w 4) (hb : ∀ d : Int, 0 ≤ d → d < w 2 → w' (5 + 32 * d + 1) = w (5 + 32 * d + 1))
    (hh : ∀ d b : Int, 0 ≤ d → d < w 2 → 0 ≤ b → b < w (5 + 32 * d + 1) → w' (5 + 32 * d + 8 + 8 * b + 1) ≠ 0 → w (5 + 32 * d + 8 + 8 * b + 1) ≠ 0) : ∀ k, zlive w' cp k → zlive w cp k
  | (0, i, j), h => h
  | (1, l, j), h => by simp only [zlive] at h ⊢; omega
  | (2, l, j), h => by simp only [zlive] at h ⊢; omega
  | (3, l, j), h => by simp only [zlive] at h ⊢; omega
  | (4, l, j), h => by simp only [zlive] at h ⊢; omega
  | (5, l, j), h => by simp only [zlive] at h ⊢; omega
  | (6, d, b), h => by
    simp only [zlive] at h ⊢
    have := hb d (by omega) (by omega)
    omega
  | (7, d, b), h => by
    simp only [zlive] at h ⊢
    have e := hb d (by omega) (by omega)
    exact ⟨by omega, hh d b (by omega) (by omega) (by omega) (by omega) h.2⟩
  | (8, d, b), h => by
    simp only [zlive] at h ⊢
    have e := hb d (by omega) (by omega)
    exact ⟨by omega, hh d b (by omega) (by omega) (by omega) (by omega) h.2⟩
  | (9, v, j), h => by simp only [zlive] at h ⊢; omega
  | (10, v, j), h => by simp only [zlive] at h ⊢; omega
  | (11, v, j), h => by simp only [zlive] at h ⊢; omega
theorem zLn_same {w w' : Int → Int} (h2 : w' 2 = w 2) (h3 : w' 3 = w 3) (h4 : w' 4 = w 4) (hb : ∀ d : Int, 0 ≤ d → d < w 2 → w' (5 + 32 * d + 1) = w (5 + 32 * d + 1)) (l : Int) (h0 : 0 ≤ l) (h1 : l < 3 + w 2) : zLn w' l = zLn w l := by
  unfold zLn
  split
  · exact h2
  · split
    · exact h3
    · split
      · exact h4
      · exact hb (l - 3) (by omega) (by omega)
theorem zR.setClock {G : zG} {w w' : Int → Int} {ad : zKey → Nat} {mc : Int → Int} {cp : Int → Nat} {cl : Bool} {F : Nat → Prop} {H H1 : Heap} (h : zR G w ad mc cp cl F H) (hLk : tLk w) (hw : ∀ c : Int, c ≠ 0 → w' c = w c) (hin : ∀ k, inR (w' k)) (h1 : zO G H1 (ad kst) 1 [.ref (ad (krow 0)), .ref (ad (krow 1)), .ref (ad (krow 2)), .int (iI (w' 0)), .int (iI (w' 1)), .int (iI (bI cl))]) (hq : ∀ q : Nat, q ≠ ad (0, 0, 0) → H1[q]? = H[q]?) : zR G w' ad mc cp cl F H1 := by
  obtain ⟨hD, hV, hL, hB, -⟩ := h.n
  have e2 : w' 2 = w 2 := hw 2 (by omega)
  have e3 : w' 3 = w 3 := hw 3 (by omega)
  have e4 : w' 4 = w 4 := hw 4 (by omega)
  have eb : ∀ d : Int, 0 ≤ d → d < w 2 → w' (5 + 32 * d + 1) = w (5 + 32 * d + 1) := fun d8 h8 h9 => hw _ (by omega)
  have hl := zlive_le (cp := cp) e2 e3 e4 eb (fun d8 b8 x1 x2 x3 x4 x5 => by have y := hB d8 x1 x2; rw [← hw _ (by omega)]; exact x5)
  have hln := zLn_same e2 e3 e4 eb
  refine h.step1 (0, 0, 0) ⟨rfl, rfl⟩ hl (fun k hk hne => ?_) h1 hq (fun l x1 x2 => hln l x1 (by omega)) e2 ⟨by unfold tD; omega, by unfold tV; omega, by unfold tL; omega, fun d8 x1 x2 => by rw [eb d8 x1 (by omega)]; exact hB d8 x1 (by omega), hin⟩
  have hk := hl k hk
  match k, hk, hne with
  | (0, i8, j8), hk, hne =>
    have hne := knn2 hne
    simp only [zlive] at hk
    exact absurd hk (by omega)
  | (1, l8, j8), hk, hne =>
    exact rfl
  | (2, l8, j8), hk, hne =>
    simp only [zlive] at hk
    exact ⟨hln _ (by omega) (by omega), rfl, rfl⟩
  | (3, l8, j8), hk, hne =>
    simp only [zlive] at hk
    exact ⟨hln _ (by omega) (by omega), rfl, fun _ _ => rfl⟩
  | (4, d8, j8), hk, hne =>
    simp only [zlive] at hk
    exact ⟨hw _ (by omega), rfl, rfl⟩
  | (5, d8, j8), hk, hne =>
    simp only [zlive] at hk
    exact ⟨hw _ (by omega), fun p8 x1 x2 => hw _ (by omega)⟩
  | (6, d8, b8), hk, hne =>
    simp only [zlive] at hk
    have y := hB d8 (by omega) (by omega)
    exact ⟨by unfold zOg; rw [hw _ (by omega)], by unfold zCy; rw [hw _ (by omega)]⟩
  | (7, d8, b8), hk, hne =>
    simp only [zlive] at hk
    have y := hB d8 (by omega) (by omega)
    exact ⟨hw _ (by omega), hw _ (by omega), hw _ (by omega), rfl, rfl⟩
  | (8, d8, b8), hk, hne =>
    simp only [zlive] at hk
    have y := hB d8 (by omega) (by omega)
    exact fun j8 x1 x2 => hw _ (by omega)
  | (9, v8, j8), hk, hne =>
    simp only [zlive] at hk
    exact ⟨hw _ (by omega), hw _ (by omega), hw _ (by omega), hw _ (by omega), hw _ (by omega), rfl⟩
  | (10, v8, j8), hk, hne =>
    simp only [zlive] at hk
    exact fun j8 x1 x2 => hw _ (by omega)
  | (11, k8, j8), hk, hne =>
    simp only [zlive] at hk
    have a1 : w' (801 + 3 * k8 + 1) = w (801 + 3 * k8 + 1) := hw _ (by omega)
    have a2 : w' (801 + 3 * k8 + 2) = w (801 + 3 * k8 + 2) := hw _ (by omega)
    refine ⟨hw _ (by omega), a1, ?_, by unfold zLv; rw [a1, a2]⟩
    unfold zLt
    rw [a1, a2]
    split
    · have y := hLk k8 (by omega) (by omega) (by assumption)
      exact hw _ (by omega)
    · rfl
  | (n8 + 12, i8, j8), hk, hne =>
    exact trivial
theorem zR.setLapse {G : zG} {w w' : Int → Int} {ad : zKey → Nat} {mc : Int → Int} {cp : Int → Nat} {cl : Bool} {F : Nat → Prop} {H H1 : Heap} (h : zR G w ad mc cp cl F H) (hLk : tLk w) (hw : ∀ c : Int, c ≠ 1 → w' c = w c) (hin : ∀ k, inR (w' k)) (h1 : zO G H1 (ad kst) 1 [.ref (ad (krow 0)), .ref (ad (krow 1)), .ref (ad (krow 2)), .int (iI (w' 0)), .int (iI (w' 1)), .int (iI (bI cl))]) (hq : ∀ q : Nat, q ≠ ad (0, 0, 0) → H1[q]? = H[q]?) : zR G w' ad mc cp cl F H1 := by
  obtain ⟨hD, hV, hL, hB, -⟩ := h.n
  have e2 : w' 2 = w 2 := hw 2 (by omega)
  have e3 : w' 3 = w 3 := hw 3 (by omega)
  have e4 : w' 4 = w 4 := hw 4 (by omega)
  have eb : ∀ d : Int, 0 ≤ d → d < w 2 → w' (5 + 32 * d + 1) = w (5 + 32 * d + 1) := fun d8 h8 h9 => hw _ (by omega)
  have hl := zlive_le (cp := cp) e2 e3 e4 eb (fun d8 b8 x1 x2 x3 x4 x5 => by have y := hB d8 x1 x2; rw [← hw _ (by omega)]; exact x5)
  have hln := zLn_same e2 e3 e4 eb
  refine h.step1 (0, 0, 0) ⟨rfl, rfl⟩ hl (fun k hk hne => ?_) h1 hq (fun l x1 x2 => hln l x1 (by omega)) e2 ⟨by unfold tD; omega, by unfold tV; omega, by unfold tL; omega, fun d8 x1 x2 => by rw [eb d8 x1 (by omega)]; exact hB d8 x1 (by omega), hin⟩
  have hk := hl k hk
  match k, hk, hne with
  | (0, i8, j8), hk, hne =>
    have hne := knn2 hne
    simp only [zlive] at hk
    exact absurd hk (by omega)
  | (1, l8, j8), hk, hne =>
    exact rfl
  | (2, l8, j8), hk, hne =>
    simp only [zlive] at hk
    exact ⟨hln _ (by omega) (by omega), rfl, rfl⟩
  | (3, l8, j8), hk, hne =>
    simp only [zlive] at hk
    exact ⟨hln _ (by omega) (by omega), rfl, fun _ _ => rfl⟩
  | (4, d8, j8), hk, hne =>
    simp only [zlive] at hk
    exact ⟨hw _ (by omega), rfl, rfl⟩
  | (5, d8, j8), hk, hne =>
    simp only [zlive] at hk
    exact ⟨hw _ (by omega), fun p8 x1 x2 => hw _ (by omega)⟩
  | (6, d8, b8), hk, hne =>
    simp only [zlive] at hk
    have y := hB d8 (by omega) (by omega)
    exact ⟨by unfold zOg; rw [hw _ (by omega)], by unfold zCy; rw [hw _ (by omega)]⟩
  | (7, d8, b8), hk, hne =>
    simp only [zlive] at hk
    have y := hB d8 (by omega) (by omega)
    exact ⟨hw _ (by omega), hw _ (by omega), hw _ (by omega), rfl, rfl⟩
  | (8, d8, b8), hk, hne =>
    simp only [zlive] at hk
    have y := hB d8 (by omega) (by omega)
    exact fun j8 x1 x2 => hw _ (by omega)
  | (9, v8, j8), hk, hne =>
    simp only [zlive] at hk
    exact ⟨hw _ (by omega), hw _ (by omega), hw _ (by omega), hw _ (by omega), hw _ (by omega), rfl⟩
  | (10, v8, j8), hk, hne =>
    simp only [zlive] at hk
    exact fun j8 x1 x2 => hw _ (by omega)
  | (11, k8, j8), hk, hne =>
    simp only [zlive] at hk
    have a1 : w' (801 + 3 * k8 + 1) = w (801 + 3 * k8 + 1) := hw _ (by omega)
    have a2 : w' (801 + 3 * k8 + 2) = w (801 + 3 * k8 + 2) := hw _ (by omega)
    refine ⟨hw _ (by omega), a1, ?_, by unfold zLv; rw [a1, a2]⟩
    unfold zLt
    rw [a1, a2]
    split
    · have y := hLk k8 (by omega) (by omega) (by assumption)
      exact hw _ (by omega)
    · rfl
  | (n8 + 12, i8, j8), hk, hne =>
    exact trivial
theorem zR.setRight {G : zG} {w w' : Int → Int} {ad : zKey → Nat} {mc : Int → Int} {cp : Int → Nat} {cl : Bool} {F : Nat → Prop} {H H1 : Heap} (h : zR G w ad mc cp cl F H) {d p : Int} (hLk : tLk w) (hd : 0 ≤ d ∧ d < w 2) (hp : 0 ≤ p ∧ p ≤ 5) (hw : ∀ c : Int, c ≠ 5 + 32 * d + 2 + p → w' c = w c) (hin : ∀ k, inR (w' k)) (h1 : zAI G H1 (ad (krt d)) 6 (zF (zRt w' d))) (hq : ∀ q : Nat, q ≠ ad (5, d, 0) → H1[q]? = H[q]?) : zR G w' ad mc cp cl F H1 := by
  obtain ⟨hD, hV, hL, hB, -⟩ := h.n
  have e2 : w' 2 = w 2 := hw 2 (by omega)
  have e3 : w' 3 = w 3 := hw 3 (by omega)
  have e4 : w' 4 = w 4 := hw 4 (by omega)
  have eb : ∀ d : Int, 0 ≤ d → d < w 2 → w' (5 + 32 * d + 1) = w (5 + 32 * d + 1) := fun d8 h8 h9 => hw _ (by omega)
  have hl := zlive_le (cp := cp) e2 e3 e4 eb (fun d8 b8 x1 x2 x3 x4 x5 => by have y := hB d8 x1 x2; rw [← hw _ (by omega)]; exact x5)
  have hln := zLn_same e2 e3 e4 eb
  refine h.step1 (5, d, 0) ⟨hd, rfl⟩ hl (fun k hk hne => ?_) h1 hq (fun l x1 x2 => hln l x1 (by omega)) e2 ⟨by unfold tD; omega, by unfold tV; omega, by unfold tL; omega, fun d8 x1 x2 => by rw [eb d8 x1 (by omega)]; exact hB d8 x1 (by omega), hin⟩
  have hk := hl k hk
  match k, hk, hne with
  | (0, i8, j8), hk, hne =>
    exact ⟨hw _ (by omega), hw _ (by omega), rfl, rfl, rfl⟩
  | (1, l8, j8), hk, hne =>
    exact rfl
  | (2, l8, j8), hk, hne =>
    simp only [zlive] at hk
    exact ⟨hln _ (by omega) (by omega), rfl, rfl⟩
  | (3, l8, j8), hk, hne =>
    simp only [zlive] at hk
    exact ⟨hln _ (by omega) (by omega), rfl, fun _ _ => rfl⟩
  | (4, d8, j8), hk, hne =>
    simp only [zlive] at hk
    exact ⟨hw _ (by omega), rfl, rfl⟩
  | (5, d8, j8), hk, hne =>
    have hne := knn2 hne
    simp only [zlive] at hk
    exact ⟨hw _ (by omega), fun p8 x1 x2 => hw _ (by omega)⟩
  | (6, d8, b8), hk, hne =>
    simp only [zlive] at hk
    have y := hB d8 (by omega) (by omega)
    exact ⟨by unfold zOg; rw [hw _ (by omega)], by unfold zCy; rw [hw _ (by omega)]⟩
  | (7, d8, b8), hk, hne =>
    simp only [zlive] at hk
    have y := hB d8 (by omega) (by omega)
    exact ⟨hw _ (by omega), hw _ (by omega), hw _ (by omega), rfl, rfl⟩
  | (8, d8, b8), hk, hne =>
    simp only [zlive] at hk
    have y := hB d8 (by omega) (by omega)
    exact fun j8 x1 x2 => hw _ (by omega)
  | (9, v8, j8), hk, hne =>
    simp only [zlive] at hk
    exact ⟨hw _ (by omega), hw _ (by omega), hw _ (by omega), hw _ (by omega), hw _ (by omega), rfl⟩
  | (10, v8, j8), hk, hne =>
    simp only [zlive] at hk
    exact fun j8 x1 x2 => hw _ (by omega)
  | (11, k8, j8), hk, hne =>
    simp only [zlive] at hk
    have a1 : w' (801 + 3 * k8 + 1) = w (801 + 3 * k8 + 1) := hw _ (by omega)
    have a2 : w' (801 + 3 * k8 + 2) = w (801 + 3 * k8 + 2) := hw _ (by omega)
    refine ⟨hw _ (by omega), a1, ?_, by unfold zLv; rw [a1, a2]⟩
    unfold zLt
    rw [a1, a2]
    split
    · have y := hLk k8 (by omega) (by omega) (by assumption)
      exact hw _ (by omega)
    · rfl
  | (n8 + 12, i8, j8), hk, hne =>
    exact trivial
theorem zR.setSince {G : zG} {w w' : Int → Int} {ad : zKey → Nat} {mc : Int → Int} {cp : Int → Nat} {cl : Bool} {F : Nat → Prop} {H H1 : Heap} (h : zR G w ad mc cp cl F H) {d b : Int} (hLk : tLk w) (hd : (0 ≤ d ∧ d < w 2) ∧ 0 ≤ b ∧ b < w (5 + 32 * d + 1)) (hh : w (5 + 32 * d + 8 + 8 * b + 1) ≠ 0) (hw : ∀ c : Int, c ≠ 5 + 32 * d + 8 + 8 * b + 2 → w' c = w c) (hin : ∀ k, inR (w' k)) (h1 : zO G H1 (ad (kcy d b)) 14 [.ref (ad (kcv d b)), .ref (ad (kver (w' (5 + 32 * d + 8 + 8 * b + 3)))), .int (iI (w' (5 + 32 * d + 8 + 8 * b + 1) - 1)), .int (iI (w' (5 + 32 * d + 8 + 8 * b + 2)))]) (hq : ∀ q : Nat, q ≠ ad (7, d, b) → H1[q]? = H[q]?) : zR G w' ad mc cp cl F H1 := by
  obtain ⟨hD, hV, hL, hB, -⟩ := h.n
  have hbd := hB d hd.1.1 hd.1.2
  have e2 : w' 2 = w 2 := hw 2 (by omega)
  have e3 : w' 3 = w 3 := hw 3 (by omega)
  have e4 : w' 4 = w 4 := hw 4 (by omega)
  have eb : ∀ d : Int, 0 ≤ d → d < w 2 → w' (5 + 32 * d + 1) = w (5 + 32 * d + 1) := fun d8 h8 h9 => hw _ (by omega)
  have hl := zlive_le (cp := cp) e2 e3 e4 eb (fun d8 b8 x1 x2 x3 x4 x5 => by have y := hB d8 x1 x2; rw [← hw _ (by omega)]; exact x5)
  have hln := zLn_same e2 e3 e4 eb
  refine h.step1 (7, d, b) ⟨hd, hh⟩ hl (fun k hk hne => ?_) h1 hq (fun l x1 x2 => hln l x1 (by omega)) e2 ⟨by unfold tD; omega, by unfold tV; omega, by unfold tL; omega, fun d8 x1 x2 => by rw [eb d8 x1 (by omega)]; exact hB d8 x1 (by omega), hin⟩
  have hk := hl k hk
  match k, hk, hne with
  | (0, i8, j8), hk, hne =>
    exact ⟨hw _ (by omega), hw _ (by omega), rfl, rfl, rfl⟩
  | (1, l8, j8), hk, hne =>
    exact rfl
  | (2, l8, j8), hk, hne =>
    simp only [zlive] at hk
    exact ⟨hln _ (by omega) (by omega), rfl, rfl⟩
  | (3, l8, j8), hk, hne =>
    simp only [zlive] at hk
    exact ⟨hln _ (by omega) (by omega), rfl, fun _ _ => rfl⟩
  | (4, d8, j8), hk, hne =>
    simp only [zlive] at hk
    exact ⟨hw _ (by omega), rfl, rfl⟩
  | (5, d8, j8), hk, hne =>
    simp only [zlive] at hk
    exact ⟨hw _ (by omega), fun p8 x1 x2 => hw _ (by omega)⟩
  | (6, d8, b8), hk, hne =>
    simp only [zlive] at hk
    have y := hB d8 (by omega) (by omega)
    exact ⟨by unfold zOg; rw [hw _ (by omega)], by unfold zCy; rw [hw _ (by omega)]⟩
  | (7, d8, b8), hk, hne =>
    have hne := knn2 hne
    simp only [zlive] at hk
    have y := hB d8 (by omega) (by omega)
    exact ⟨hw _ (by omega), hw _ (by omega), hw _ (by omega), rfl, rfl⟩
  | (8, d8, b8), hk, hne =>
    simp only [zlive] at hk
    have y := hB d8 (by omega) (by omega)
    exact fun j8 x1 x2 => hw _ (by omega)
  | (9, v8, j8), hk, hne =>
    simp only [zlive] at hk
    exact ⟨hw _ (by omega), hw _ (by omega), hw _ (by omega), hw _ (by omega), hw _ (by omega), rfl⟩
  | (10, v8, j8), hk, hne =>
    simp only [zlive] at hk
    exact fun j8 x1 x2 => hw _ (by omega)
  | (11, k8, j8), hk, hne =>
    simp only [zlive] at hk
    have a1 : w' (801 + 3 * k8 + 1) = w (801 + 3 * k8 + 1) := hw _ (by omega)
    have a2 : w' (801 + 3 * k8 + 2) = w (801 + 3 * k8 + 2) := hw _ (by omega)
    refine ⟨hw _ (by omega), a1, ?_, by unfold zLv; rw [a1, a2]⟩
    unfold zLt
    rw [a1, a2]
    split
    · have y := hLk k8 (by omega) (by omega) (by assumption)
      exact hw _ (by omega)
    · rfl
  | (n8 + 12, i8, j8), hk, hne =>
    exact trivial
theorem zR.setValue {G : zG} {w w' : Int → Int} {ad : zKey → Nat} {mc : Int → Int} {cp : Int → Nat} {cl : Bool} {F : Nat → Prop} {H H1 : Heap} (h : zR G w ad mc cp cl F H) {d b j : Int} (hLk : tLk w) (hd : (0 ≤ d ∧ d < w 2) ∧ 0 ≤ b ∧ b < w (5 + 32 * d + 1)) (hh : w (5 + 32 * d + 8 + 8 * b + 1) ≠ 0) (hj : 0 ≤ j ∧ j < 4) (hw : ∀ c : Int, c ≠ 5 + 32 * d + 8 + 8 * b + 4 + j → w' c = w c) (hin : ∀ k, inR (w' k)) (h1 : zAI G H1 (ad (kcv d b)) 4 (zF (fun j => w' (5 + 32 * d + 8 + 8 * b + 4 + j)))) (hq : ∀ q : Nat, q ≠ ad (8, d, b) → H1[q]? = H[q]?) : zR G w' ad mc cp cl F H1 := by
  obtain ⟨hD, hV, hL, hB, -⟩ := h.n
  have hbd := hB d hd.1.1 hd.1.2
  have e2 : w' 2 = w 2 := hw 2 (by omega)
  have e3 : w' 3 = w 3 := hw 3 (by omega)
  have e4 : w' 4 = w 4 := hw 4 (by omega)
  have eb : ∀ d : Int, 0 ≤ d → d < w 2 → w' (5 + 32 * d + 1) = w (5 + 32 * d + 1) := fun d8 h8 h9 => hw _ (by omega)
  have hl := zlive_le (cp := cp) e2 e3 e4 eb (fun d8 b8 x1 x2 x3 x4 x5 => by have y := hB d8 x1 x2; rw [← hw _ (by omega)]; exact x5)
  have hln := zLn_same e2 e3 e4 eb
  refine h.step1 (8, d, b) ⟨hd, hh⟩ hl (fun k hk hne => ?_) h1 hq (fun l x1 x2 => hln l x1 (by omega)) e2 ⟨by unfold tD; omega, by unfold tV; omega, by unfold tL; omega, fun d8 x1 x2 => by rw [eb d8 x1 (by omega)]; exact hB d8 x1 (by omega), hin⟩
  have hk := hl k hk
  match k, hk, hne with
  | (0, i8, j8), hk, hne =>
    exact ⟨hw _ (by omega), hw _ (by omega), rfl, rfl, rfl⟩
  | (1, l8, j8), hk, hne =>
    exact rfl
  | (2, l8, j8), hk, hne =>
    simp only [zlive] at hk
    exact ⟨hln _ (by omega) (by omega), rfl, rfl⟩
  | (3, l8, j8), hk, hne =>
    simp only [zlive] at hk
    exact ⟨hln _ (by omega) (by omega), rfl, fun _ _ => rfl⟩
  | (4, d8, j8), hk, hne =>
    simp only [zlive] at hk
    exact ⟨hw _ (by omega), rfl, rfl⟩
  | (5, d8, j8), hk, hne =>
    simp only [zlive] at hk
    exact ⟨hw _ (by omega), fun p8 x1 x2 => hw _ (by omega)⟩
  | (6, d8, b8), hk, hne =>
    simp only [zlive] at hk
    have y := hB d8 (by omega) (by omega)
    exact ⟨by unfold zOg; rw [hw _ (by omega)], by unfold zCy; rw [hw _ (by omega)]⟩
  | (7, d8, b8), hk, hne =>
    simp only [zlive] at hk
    have y := hB d8 (by omega) (by omega)
    exact ⟨hw _ (by omega), hw _ (by omega), hw _ (by omega), rfl, rfl⟩
  | (8, d8, b8), hk, hne =>
    have hne := knn2 hne
    simp only [zlive] at hk
    have y := hB d8 (by omega) (by omega)
    exact fun j8 x1 x2 => hw _ (by omega)
  | (9, v8, j8), hk, hne =>
    simp only [zlive] at hk
    exact ⟨hw _ (by omega), hw _ (by omega), hw _ (by omega), hw _ (by omega), hw _ (by omega), rfl⟩
  | (10, v8, j8), hk, hne =>
    simp only [zlive] at hk
    exact fun j8 x1 x2 => hw _ (by omega)
  | (11, k8, j8), hk, hne =>
    simp only [zlive] at hk
    have a1 : w' (801 + 3 * k8 + 1) = w (801 + 3 * k8 + 1) := hw _ (by omega)
    have a2 : w' (801 + 3 * k8 + 2) = w (801 + 3 * k8 + 2) := hw _ (by omega)
    refine ⟨hw _ (by omega), a1, ?_, by unfold zLv; rw [a1, a2]⟩
    unfold zLt
    rw [a1, a2]
    split
    · have y := hLk k8 (by omega) (by omega) (by assumption)
      exact hw _ (by omega)
    · rfl
  | (n8 + 12, i8, j8), hk, hne =>
    exact trivial
theorem zR.setOrigin {G : zG} {w w' : Int → Int} {ad : zKey → Nat} {mc : Int → Int} {cp : Int → Nat} {cl : Bool} {F : Nat → Prop} {H H1 : Heap} (h : zR G w ad mc cp cl F H) {d b : Int} (hLk : tLk w) (hd : (0 ≤ d ∧ d < w 2) ∧ 0 ≤ b ∧ b < w (5 + 32 * d + 1)) (hw : ∀ c : Int, c ≠ 5 + 32 * d + 8 + 8 * b → w' c = w c) (hin : ∀ k, inR (w' k)) (h1 : zO G H1 (ad (kbr d b)) 9 [va_rf (zOg w' ad d b), va_rf (zCy w' ad d b)]) (hq : ∀ q : Nat, q ≠ ad (6, d, b) → H1[q]? = H[q]?) : zR G w' ad mc cp cl F H1 := by
  obtain ⟨hD, hV, hL, hB, -⟩ := h.n
  have hbd := hB d hd.1.1 hd.1.2
  have e2 : w' 2 = w 2 := hw 2 (by omega)
  have e3 : w' 3 = w 3 := hw 3 (by omega)
  have e4 : w' 4 = w 4 := hw 4 (by omega)
  have eb : ∀ d : Int, 0 ≤ d → d < w 2 → w' (5 + 32 * d + 1) = w (5 + 32 * d + 1) := fun d8 h8 h9 => hw _ (by omega)
  have hl := zlive_le (cp := cp) e2 e3 e4 eb (fun d8 b8 x1 x2 x3 x4 x5 => by have y := hB d8 x1 x2; rw [← hw _ (by omega)]; exact x5)
  have hln := zLn_same e2 e3 e4 eb
  refine h.step1 (6, d, b) hd hl (fun k hk hne => ?_) h1 hq (fun l x1 x2 => hln l x1 (by omega)) e2 ⟨by unfold tD; omega, by unfold tV; omega, by unfold tL; omega, fun d8 x1 x2 => by rw [eb d8 x1 (by omega)]; exact hB d8 x1 (by omega), hin⟩
  have hk := hl k hk
  match k, hk, hne with
  | (0, i8, j8), hk, hne =>
    exact ⟨hw _ (by omega), hw _ (by omega), rfl, rfl, rfl⟩
  | (1, l8, j8), hk, hne =>
    exact rfl
  | (2, l8, j8), hk, hne =>
    simp only [zlive] at hk
    exact ⟨hln _ (by omega) (by omega), rfl, rfl⟩
  | (3, l8, j8), hk, hne =>
    simp only [zlive] at hk
    exact ⟨hln _ (by omega) (by omega), rfl, fun _ _ => rfl⟩
  | (4, d8, j8), hk, hne =>
    simp only [zlive] at hk
    exact ⟨hw _ (by omega), rfl, rfl⟩
  | (5, d8, j8), hk, hne =>
    simp only [zlive] at hk
    exact ⟨hw _ (by omega), fun p8 x1 x2 => hw _ (by omega)⟩
  | (6, d8, b8), hk, hne =>
    have hne := knn2 hne
    simp only [zlive] at hk
    have y := hB d8 (by omega) (by omega)
    exact ⟨by unfold zOg; rw [hw _ (by omega)], by unfold zCy; rw [hw _ (by omega)]⟩
  | (7, d8, b8), hk, hne =>
    simp only [zlive] at hk
    have y := hB d8 (by omega) (by omega)
    exact ⟨hw _ (by omega), hw _ (by omega), hw _ (by omega), rfl, rfl⟩
  | (8, d8, b8), hk, hne =>
    simp only [zlive] at hk
    have y := hB d8 (by omega) (by omega)
    exact fun j8 x1 x2 => hw _ (by omega)
  | (9, v8, j8), hk, hne =>
    simp only [zlive] at hk
    exact ⟨hw _ (by omega), hw _ (by omega), hw _ (by omega), hw _ (by omega), hw _ (by omega), rfl⟩
  | (10, v8, j8), hk, hne =>
    simp only [zlive] at hk
    exact fun j8 x1 x2 => hw _ (by omega)
  | (11, k8, j8), hk, hne =>
    simp only [zlive] at hk
    have a1 : w' (801 + 3 * k8 + 1) = w (801 + 3 * k8 + 1) := hw _ (by omega)
    have a2 : w' (801 + 3 * k8 + 2) = w (801 + 3 * k8 + 2) := hw _ (by omega)
    refine ⟨hw _ (by omega), a1, ?_, by unfold zLv; rw [a1, a2]⟩
    unfold zLt
    rw [a1, a2]
    split
    · have y := hLk k8 (by omega) (by omega) (by assumption)
      exact hw _ (by omega)
    · rfl
  | (n8 + 12, i8, j8), hk, hne =>
    exact trivial
theorem zR.setMajor {G : zG} {w w' : Int → Int} {ad : zKey → Nat} {mc : Int → Int} {cp : Int → Nat} {cl : Bool} {F : Nat → Prop} {H H1 : Heap} (h : zR G w ad mc cp cl F H) {v : Int} (hLk : tLk w) (hv : 0 ≤ v ∧ v < w 3) (hw : ∀ c : Int, c ≠ 261 + 9 * v + 2 → w' c = w c) (hin : ∀ k, inR (w' k)) (h1 : zO G H1 (ad (kver v)) 11 [.ref (ad (kvv v)), .int (iI v), .int (iI (w' (261 + 9 * v))), .int (iI (w' (261 + 9 * v + 1))), .int (iI (w' (261 + 9 * v + 2))), .int (iI (w' (261 + 9 * v + 3))), .int (iI (bI (zGn w' v)))]) (hq : ∀ q : Nat, q ≠ ad (9, v, 0) → H1[q]? = H[q]?) : zR G w' ad mc cp cl F H1 := by
  obtain ⟨hD, hV, hL, hB, -⟩ := h.n
  have e2 : w' 2 = w 2 := hw 2 (by omega)
  have e3 : w' 3 = w 3 := hw 3 (by omega)
  have e4 : w' 4 = w 4 := hw 4 (by omega)
  have eb : ∀ d : Int, 0 ≤ d → d < w 2 → w' (5 + 32 * d + 1) = w (5 + 32 * d + 1) := fun d8 h8 h9 => hw _ (by omega)
  have hl := zlive_le (cp := cp) e2 e3 e4 eb (fun d8 b8 x1 x2 x3 x4 x5 => by have y := hB d8 x1 x2; rw [← hw _ (by omega)]; exact x5)
  have hln := zLn_same e2 e3 e4 eb
  refine h.step1 (9, v, 0) ⟨hv, rfl⟩ hl (fun k hk hne => ?_) h1 hq (fun l x1 x2 => hln l x1 (by omega)) e2 ⟨by unfold tD; omega, by unfold tV; omega, by unfold tL; omega, fun d8 x1 x2 => by rw [eb d8 x1 (by omega)]; exact hB d8 x1 (by omega), hin⟩
  have hk := hl k hk
  match k, hk, hne with
  | (0, i8, j8), hk, hne =>
    exact ⟨hw _ (by omega), hw _ (by omega), rfl, rfl, rfl⟩
  | (1, l8, j8), hk, hne =>
    exact rfl
  | (2, l8, j8), hk, hne =>
    simp only [zlive] at hk
    exact ⟨hln _ (by omega) (by omega), rfl, rfl⟩
  | (3, l8, j8), hk, hne =>
    simp only [zlive] at hk
    exact ⟨hln _ (by omega) (by omega), rfl, fun _ _ => rfl⟩
  | (4, d8, j8), hk, hne =>
    simp only [zlive] at hk
    exact ⟨hw _ (by omega), rfl, rfl⟩
  | (5, d8, j8), hk, hne =>
    simp only [zlive] at hk
    exact ⟨hw _ (by omega), fun p8 x1 x2 => hw _ (by omega)⟩
  | (6, d8, b8), hk, hne =>
    simp only [zlive] at hk
    have y := hB d8 (by omega) (by omega)
    exact ⟨by unfold zOg; rw [hw _ (by omega)], by unfold zCy; rw [hw _ (by omega)]⟩
  | (7, d8, b8), hk, hne =>
    simp only [zlive] at hk
    have y := hB d8 (by omega) (by omega)
    exact ⟨hw _ (by omega), hw _ (by omega), hw _ (by omega), rfl, rfl⟩
  | (8, d8, b8), hk, hne =>
    simp only [zlive] at hk
    have y := hB d8 (by omega) (by omega)
    exact fun j8 x1 x2 => hw _ (by omega)
  | (9, v8, j8), hk, hne =>
    have hne := knn2 hne
    simp only [zlive] at hk
    exact ⟨hw _ (by omega), hw _ (by omega), hw _ (by omega), hw _ (by omega), hw _ (by omega), rfl⟩
  | (10, v8, j8), hk, hne =>
    simp only [zlive] at hk
    exact fun j8 x1 x2 => hw _ (by omega)
  | (11, k8, j8), hk, hne =>
    simp only [zlive] at hk
    have a1 : w' (801 + 3 * k8 + 1) = w (801 + 3 * k8 + 1) := hw _ (by omega)
    have a2 : w' (801 + 3 * k8 + 2) = w (801 + 3 * k8 + 2) := hw _ (by omega)
    refine ⟨hw _ (by omega), a1, ?_, by unfold zLv; rw [a1, a2]⟩
    unfold zLt
    rw [a1, a2]
    split
    · have y := hLk k8 (by omega) (by omega) (by assumption)
      exact hw _ (by omega)
    · rfl
  | (n8 + 12, i8, j8), hk, hne =>
    exact trivial
theorem zR.setMinor {G : zG} {w w' : Int → Int} {ad : zKey → Nat} {mc : Int → Int} {cp : Int → Nat} {cl : Bool} {F : Nat → Prop} {H H1 : Heap} (h : zR G w ad mc cp cl F H) {v : Int} (hLk : tLk w) (hv : 0 ≤ v ∧ v < w 3) (hw : ∀ c : Int, c ≠ 261 + 9 * v + 3 → w' c = w c) (hin : ∀ k, inR (w' k)) (h1 : zO G H1 (ad (kver v)) 11 [.ref (ad (kvv v)), .int (iI v), .int (iI (w' (261 + 9 * v))), .int (iI (w' (261 + 9 * v + 1))), .int (iI (w' (261 + 9 * v + 2))), .int (iI (w' (261 + 9 * v + 3))), .int (iI (bI (zGn w' v)))]) (hq : ∀ q : Nat, q ≠ ad (9, v, 0) → H1[q]? = H[q]?) : zR G w' ad mc cp cl F H1 := by
  obtain ⟨hD, hV, hL, hB, -⟩ := h.n
  have e2 : w' 2 = w 2 := hw 2 (by omega)
  have e3 : w' 3 = w 3 := hw 3 (by omega)
  have e4 : w' 4 = w 4 := hw 4 (by omega)
  have eb : ∀ d : Int, 0 ≤ d → d < w 2 → w' (5 + 32 * d + 1) = w (5 + 32 * d + 1) := fun d8 h8 h9 => hw _ (by omega)
  have hl := zlive_le (cp := cp) e2 e3 e4 eb (fun d8 b8 x1 x2 x3 x4 x5 => by have y := hB d8 x1 x2; rw [← hw _ (by omega)]; exact x5)
  have hln := zLn_same e2 e3 e4 eb
  refine h.step1 (9, v, 0) ⟨hv, rfl⟩ hl (fun k hk hne => ?_) h1 hq (fun l x1 x2 => hln l x1 (by omega)) e2 ⟨by unfold tD; omega, by unfold tV; omega, by unfold tL; omega, fun d8 x1 x2 => by rw [eb d8 x1 (by omega)]; exact hB d8 x1 (by omega), hin⟩
  have hk := hl k hk
  match k, hk, hne with
  | (0, i8, j8), hk, hne =>
    exact ⟨hw _ (by omega), hw _ (by omega), rfl, rfl, rfl⟩
  | (1, l8, j8), hk, hne =>
    exact rfl
  | (2, l8, j8), hk, hne =>
    simp only [zlive] at hk
    exact ⟨hln _ (by omega) (by omega), rfl, rfl⟩
  | (3, l8, j8), hk, hne =>
    simp only [zlive] at hk
    exact ⟨hln _ (by omega) (by omega), rfl, fun _ _ => rfl⟩
  | (4, d8, j8), hk, hne =>
    simp only [zlive] at hk
    exact ⟨hw _ (by omega), rfl, rfl⟩
  | (5, d8, j8), hk, hne =>
    simp only [zlive] at hk
    exact ⟨hw _ (by omega), fun p8 x1 x2 => hw _ (by omega)⟩
  | (6, d8, b8), hk, hne =>
    simp only [zlive] at hk
    have y := hB d8 (by omega) (by omega)
    exact ⟨by unfold zOg; rw [hw _ (by omega)], by unfold zCy; rw [hw _ (by omega)]⟩
  | (7, d8, b8), hk, hne =>
    simp only [zlive] at hk
    have y := hB d8 (by omega) (by omega)
    exact ⟨hw _ (by omega), hw _ (by omega), hw _ (by omega), rfl, rfl⟩
  | (8, d8, b8), hk, hne =>
    simp only [zlive] at hk
    have y := hB d8 (by omega) (by omega)
    exact fun j8 x1 x2 => hw _ (by omega)
  | (9, v8, j8), hk, hne =>
    have hne := knn2 hne
    simp only [zlive] at hk
    exact ⟨hw _ (by omega), hw _ (by omega), hw _ (by omega), hw _ (by omega), hw _ (by omega), rfl⟩
  | (10, v8, j8), hk, hne =>
    simp only [zlive] at hk
    exact fun j8 x1 x2 => hw _ (by omega)
  | (11, k8, j8), hk, hne =>
    simp only [zlive] at hk
    have a1 : w' (801 + 3 * k8 + 1) = w (801 + 3 * k8 + 1) := hw _ (by omega)
    have a2 : w' (801 + 3 * k8 + 2) = w (801 + 3 * k8 + 2) := hw _ (by omega)
    refine ⟨hw _ (by omega), a1, ?_, by unfold zLv; rw [a1, a2]⟩
    unfold zLt
    rw [a1, a2]
    split
    · have y := hLk k8 (by omega) (by omega) (by assumption)
      exact hw _ (by omega)
    · rfl
  | (n8 + 12, i8, j8), hk, hne =>
    exact trivial
theorem zR.setGone {G : zG} {w w' : Int → Int} {ad : zKey → Nat} {mc : Int → Int} {cp : Int → Nat} {cl : Bool} {F : Nat → Prop} {H H1 : Heap} (h : zR G w ad mc cp cl F H) {v : Int} (hLk : tLk w) (hv : 0 ≤ v ∧ v < w 3) (hw : ∀ c : Int, c ≠ 261 + 9 * v + 8 → w' c = w c) (hin : ∀ k, inR (w' k)) (h1 : zO G H1 (ad (kver v)) 11 [.ref (ad (kvv v)), .int (iI v), .int (iI (w' (261 + 9 * v))), .int (iI (w' (261 + 9 * v + 1))), .int (iI (w' (261 + 9 * v + 2))), .int (iI (w' (261 + 9 * v + 3))), .int (iI (bI (zGn w' v)))]) (hq : ∀ q : Nat, q ≠ ad (9, v, 0) → H1[q]? = H[q]?) : zR G w' ad mc cp cl F H1 := by
  obtain ⟨hD, hV, hL, hB, -⟩ := h.n
  have e2 : w' 2 = w 2 := hw 2 (by omega)
  have e3 : w' 3 = w 3 := hw 3 (by omega)
  have e4 : w' 4 = w 4 := hw 4 (by omega)
  have eb : ∀ d : Int, 0 ≤ d → d < w 2 → w' (5 + 32 * d + 1) = w (5 + 32 * d + 1) := fun d8 h8 h9 => hw _ (by omega)
  have hl := zlive_le (cp := cp) e2 e3 e4 eb (fun d8 b8 x1 x2 x3 x4 x5 => by have y := hB d8 x1 x2; rw [← hw _ (by omega)]; exact x5)
  have hln := zLn_same e2 e3 e4 eb
  refine h.step1 (9, v, 0) ⟨hv, rfl⟩ hl (fun k hk hne => ?_) h1 hq (fun l x1 x2 => hln l x1 (by omega)) e2 ⟨by unfold tD; omega, by unfold tV; omega, by unfold tL; omega, fun d8 x1 x2 => by rw [eb d8 x1 (by omega)]; exact hB d8 x1 (by omega), hin⟩
  have hk := hl k hk
  match k, hk, hne with
  | (0, i8, j8), hk, hne =>
    exact ⟨hw _ (by omega), hw _ (by omega), rfl, rfl, rfl⟩
  | (1, l8, j8), hk, hne =>
    exact rfl
  | (2, l8, j8), hk, hne =>
    simp only [zlive] at hk
    exact ⟨hln _ (by omega) (by omega), rfl, rfl⟩
  | (3, l8, j8), hk, hne =>
    simp only [zlive] at hk
    exact ⟨hln _ (by omega) (by omega), rfl, fun _ _ => rfl⟩
  | (4, d8, j8), hk, hne =>
    simp only [zlive] at hk
    exact ⟨hw _ (by omega), rfl, rfl⟩
  | (5, d8, j8), hk, hne =>
    simp only [zlive] at hk
    exact ⟨hw _ (by omega), fun p8 x1 x2 => hw _ (by omega)⟩
  | (6, d8, b8), hk, hne =>
    simp only [zlive] at hk
    have y := hB d8 (by omega) (by omega)
    exact ⟨by unfold zOg; rw [hw _ (by omega)], by unfold zCy; rw [hw _ (by omega)]⟩
  | (7, d8, b8), hk, hne =>
    simp only [zlive] at hk
    have y := hB d8 (by omega) (by omega)
    exact ⟨hw _ (by omega), hw _ (by omega), hw _ (by omega), rfl, rfl⟩
  | (8, d8, b8), hk, hne =>
    simp only [zlive] at hk
    have y := hB d8 (by omega) (by omega)
    exact fun j8 x1 x2 => hw _ (by omega)
  | (9, v8, j8), hk, hne =>
    have hne := knn2 hne
    simp only [zlive] at hk
    exact ⟨hw _ (by omega), hw _ (by omega), hw _ (by omega), hw _ (by omega), hw _ (by omega), rfl⟩
  | (10, v8, j8), hk, hne =>
    simp only [zlive] at hk
    exact fun j8 x1 x2 => hw _ (by omega)
  | (11, k8, j8), hk, hne =>
    simp only [zlive] at hk
    have a1 : w' (801 + 3 * k8 + 1) = w (801 + 3 * k8 + 1) := hw _ (by omega)
    have a2 : w' (801 + 3 * k8 + 2) = w (801 + 3 * k8 + 2) := hw _ (by omega)
    refine ⟨hw _ (by omega), a1, ?_, by unfold zLv; rw [a1, a2]⟩
    unfold zLt
    rw [a1, a2]
    split
    · have y := hLk k8 (by omega) (by omega) (by assumption)
      exact hw _ (by omega)
    · rfl
  | (n8 + 12, i8, j8), hk, hne =>
    exact trivial
theorem zR.copyNull {G : zG} {w w' : Int → Int} {ad : zKey → Nat} {mc : Int → Int} {cp : Int → Nat} {cl : Bool} {F : Nat → Prop} {H H1 : Heap} (h : zR G w ad mc cp cl F H) {d b : Int} (hLk : tLk w) (hd : (0 ≤ d ∧ d < w 2) ∧ 0 ≤ b ∧ b < w (5 + 32 * d + 1)) (hz : w' (5 + 32 * d + 8 + 8 * b + 1) = 0) (hw : ∀ c : Int, c ≠ 5 + 32 * d + 8 + 8 * b + 1 → w' c = w c) (hin : ∀ k, inR (w' k)) (h1 : zO G H1 (ad (kbr d b)) 9 [va_rf (zOg w' ad d b), va_rf (zCy w' ad d b)]) (hq : ∀ q : Nat, q ≠ ad (6, d, b) → H1[q]? = H[q]?) : zR G w' ad mc cp cl F H1 := by
  obtain ⟨hD, hV, hL, hB, -⟩ := h.n
  have hbd := hB d hd.1.1 hd.1.2
  have e2 : w' 2 = w 2 := hw 2 (by omega)
  have e3 : w' 3 = w 3 := hw 3 (by omega)
  have e4 : w' 4 = w 4 := hw 4 (by omega)
  have eb : ∀ d : Int, 0 ≤ d → d < w 2 → w' (5 + 32 * d + 1) = w (5 + 32 * d + 1) := fun d8 h8 h9 => hw _ (by omega)
  have hl := zlive_le (cp := cp) e2 e3 e4 eb (fun d8 b8 x1 x2 x3 x4 x5 => by have y := hB d8 x1 x2; exact if e : d8 = d ∧ b8 = b then absurd hz (by obtain ⟨q1, q2⟩ := e; rw [q1, q2] at x5; exact x5) else (by rw [← hw _ (by omega)]; exact x5))
  have hln := zLn_same e2 e3 e4 eb
  refine h.step1 (6, d, b) hd hl (fun k hk9 hne => ?_) h1 hq (fun l x1 x2 => hln l x1 (by omega)) e2 ⟨by unfold tD; omega, by unfold tV; omega, by unfold tL; omega, fun d8 x1 x2 => by rw [eb d8 x1 (by omega)]; exact hB d8 x1 (by omega), hin⟩
  have hk := hl k hk9
  match k, hk, hk9, hne with
  | (0, i8, j8), hk, hk9, hne =>
    exact ⟨hw _ (by omega), hw _ (by omega), rfl, rfl, rfl⟩
  | (1, l8, j8), hk, hk9, hne =>
    exact rfl
  | (2, l8, j8), hk, hk9, hne =>
    simp only [zlive] at hk
    exact ⟨hln _ (by omega) (by omega), rfl, rfl⟩
  | (3, l8, j8), hk, hk9, hne =>
    simp only [zlive] at hk
    exact ⟨hln _ (by omega) (by omega), rfl, fun _ _ => rfl⟩
  | (4, d8, j8), hk, hk9, hne =>
    simp only [zlive] at hk
    exact ⟨hw _ (by omega), rfl, rfl⟩
  | (5, d8, j8), hk, hk9, hne =>
    simp only [zlive] at hk
    exact ⟨hw _ (by omega), fun p8 x1 x2 => hw _ (by omega)⟩
  | (6, d8, b8), hk, hk9, hne =>
    have hne := knn2 hne
    simp only [zlive] at hk
    have y := hB d8 (by omega) (by omega)
    exact ⟨by unfold zOg; rw [hw _ (by omega)], by unfold zCy; rw [hw _ (by omega)]⟩
  | (7, d8, b8), hk, hk9, hne =>
    have hk2 := hk
    simp only [zlive] at hk
    have y := hB d8 (by omega) (by omega)
    have hn2 : ¬ (d8 = d ∧ b8 = b) := fun q => by obtain ⟨rfl, rfl⟩ := q; exact hk9.2 hz
    exact ⟨hw _ (by omega), hw _ (by omega), hw _ (by omega), rfl, rfl⟩
  | (8, d8, b8), hk, hk9, hne =>
    simp only [zlive] at hk
    have y := hB d8 (by omega) (by omega)
    exact fun j8 x1 x2 => hw _ (by omega)
  | (9, v8, j8), hk, hk9, hne =>
    simp only [zlive] at hk
    exact ⟨hw _ (by omega), hw _ (by omega), hw _ (by omega), hw _ (by omega), hw _ (by omega), rfl⟩
  | (10, v8, j8), hk, hk9, hne =>
    simp only [zlive] at hk
    exact fun j8 x1 x2 => hw _ (by omega)
  | (11, k8, j8), hk, hk9, hne =>
    simp only [zlive] at hk
    have a1 : w' (801 + 3 * k8 + 1) = w (801 + 3 * k8 + 1) := hw _ (by omega)
    have a2 : w' (801 + 3 * k8 + 2) = w (801 + 3 * k8 + 2) := hw _ (by omega)
    refine ⟨hw _ (by omega), a1, ?_, by unfold zLv; rw [a1, a2]⟩
    unfold zLt
    rw [a1, a2]
    split
    · have y := hLk k8 (by omega) (by omega) (by assumption)
      exact hw _ (by omega)
    · rfl
  | (n8 + 12, i8, j8), hk, hk9, hne =>
    exact trivial
