section
/-! pure rows -/
/-- the window x .. y is refused for jobs of length l -/
def ej_bad (l : Nat) (x y : Int32) : Prop := x < 0 ∨ 40 < y ∨ 40 < x ∨ y < 0 ∨ y - x < nI l
theorem ej_good {l : Nat} {x y : Int32} (hl : l ≤ 6) (h : ¬ ej_bad l x y) : ∃ r d : Nat, x = nI r ∧ y = nI d ∧ r + l ≤ d ∧ d ≤ 40 := by
  have h1 : ¬ x < 0 := fun z => h (Or.inl z)
  have h2 : ¬ 40 < y := fun z => h (Or.inr (Or.inl z))
  have h3 : ¬ 40 < x := fun z => h (Or.inr (Or.inr (Or.inl z)))
  have h4 : ¬ y < 0 := fun z => h (Or.inr (Or.inr (Or.inr (Or.inl z))))
  have h5 : ¬ y - x < nI l := fun z => h (Or.inr (Or.inr (Or.inr (Or.inr z))))
  obtain ⟨r, hr, rfl⟩ := nI_of2 (M := 40) (n := 40) (by decide) h1 (Int32.not_lt.mp h3)
  obtain ⟨d, hd, rfl⟩ := nI_of2 (M := 40) (n := 40) (by decide) h4 (Int32.not_lt.mp h2)
  rw [Int32.lt_iff_toInt_lt, pk_sub_toInt (by omega) (by omega), nI_toInt (by omega)] at h5
  exact ⟨r, d, rfl, rfl, by omega, hd⟩
theorem ej_byte : ∀ t, t < 41 → (nI t).toInt8.toInt32 = nI t := by decide +kernel
theorem ej_nm1 {r : Nat} (h : r < 2 ^ 31) : ¬ nI r ≤ -1 := by
  rw [Int32.le_iff_toInt_le, nI_toInt h]
  have e : (-1 : Int32).toInt = -1 := by decide
  rw [e]
  omega
theorem ej_fill {s : Nat → Int32} {i : Nat} (h : ∀ j, j < i → s j = 0) : ∀ j, j < i + 1 → upd s i 0 j = 0 := by
  intro j hj
  by_cases e : j = i
  · rw [e, pk_us]
  · rw [pk_un e]
    exact h j (by omega)
/-- a number held between 1 and 6, and the three roads to it -/
theorem ej_clamp (p : Int32) : ∃ l : Nat, 1 ≤ l ∧ l ≤ 6 ∧ ∀ (P : Int32 → Prop), P (nI l) → ((1 ≤ p → ((p ≤ 6 → P p) ∧ (¬ p ≤ 6 → P 6))) ∧ (¬ 1 ≤ p → P 1)) := by
  by_cases h : 1 ≤ p
  · by_cases h6 : p ≤ 6
    · have h0 : ¬ p < 0 := by
        rw [Int32.le_iff_toInt_le] at h
        rw [Int32.lt_iff_toInt_lt]
        have e1 : (1 : Int32).toInt = 1 := by decide
        have e0 : (0 : Int32).toInt = 0 := by decide
        rw [e1] at h
        rw [e0]
        omega
      obtain ⟨l, hl, rfl⟩ := nI_of2 (M := 6) (n := 6) (by decide) h0 h6
      refine ⟨l, ?_, hl, fun P hP => br_t h (br_t h6 hP)⟩
      exact (nI_leI (a := 1) (by omega) (by omega)).mp h
    · exact ⟨6, by omega, by omega, fun P hP => br_t h (br_f h6 hP)⟩
  · exact ⟨1, by omega, by omega, fun P hP => br_f h hP⟩

/-! the class, a lemma a method -/
section
variable {l c : Nat} {q le pk : Int32} {a1 a2 a3 a4 a5 a6 a7 a8 a9 a10 a11 : Nat → Int32}
theorem ej_win {post : Int32 → Prop} {x y : Int32} (H0 : ej_bad l x y → post 0) (H1 : ¬ ej_bad l x y → post 1) : wpX_windowOk post ((nI l), (nI c), q, le, pk, a1, a2, a3, a4, a5, a6, a7, a8, a9, a10, a11) x y :=
  br_c (fun h => H0 (Or.inl h)) (fun h1 => br_c (fun h => H0 (Or.inr (Or.inl h))) (fun h2 => br_c (fun h => H0 (Or.inr (Or.inr (Or.inl h)))) (fun h3 => br_c (fun h => H0 (Or.inr (Or.inr (Or.inr (Or.inl h))))) (fun h4 => br_c (fun h => H0 (Or.inr (Or.inr (Or.inr (Or.inr h))))) (fun h5 => H1 (fun z => z.elim h1 (fun z => z.elim h2 (fun z => z.elim h3 (fun z => z.elim h4 h5)))))))))
theorem ej_free {post : Int32 → Prop} (h1 : 1 ≤ c) (hc : c ≤ 6) (h : ∀ j, j < 8 → a1 j = 0) (H : post 0) : wpX_freeNumber post ((nI l), (nI c), q, le, pk, a1, a2, a3, a4, a5, a6, a7, a8, a9, a10, a11) :=
  Exists.intro 1 (pk_le c 0 (fun z => absurd z (by omega)) (fun _ => ⟨pk_in 0 8 (by omega), br_t (h 0 (by omega)) H⟩))
theorem ej_askP {post : St2 → Prop} {x1 x2 : Int32} (hc : c ≤ 6) (h : ∀ j, j < 8 → a1 j = 0) (H : post ((nI l), (nI c), 0, le, pk, a1, a2, a3, a4, a5, a6, a7, a8, a9, a10, a11)) : wpX_askPinned post ((nI l), (nI c), q, le, pk, a1, a2, a3, a4, a5, a6, a7, a8, a9, a10, a11) x1 x2 :=
  pk_loop (σ := Unit) (fun n i _ => wX_askPinned_7 post x1 x2 n (nI i) (nI l) (nI c) 0 le pk a1 a2 a3 a4 a5 a6 a7 a8 a9 a10 a11) (fun _ _ => True) c 0 () (by omega) trivial
    (fun n _ _ => pk_le c c (fun _ => H) (fun z => absurd z (by omega)))
    (fun n i _ hi _ hw => pk_le c i (fun z => absurd z (by omega)) (fun _ => ⟨pk_in i 8 (by omega), br_t (by rw [nI_clamp (by omega)]; exact h i (by omega)) (nm_r (nI_1 i) (hw () trivial))⟩))
theorem ej_askB {post : St2 → Prop} {x1 : Int32} (hc : c ≤ 6) (h : ∀ j, j < 8 → a1 j = 0) (H : post ((nI l), (nI c), 0, le, pk, a1, a2, a3, a4, a5, a6, a7, a8, a9, a10, a11)) : wpX_askAllBut post ((nI l), (nI c), q, le, pk, a1, a2, a3, a4, a5, a6, a7, a8, a9, a10, a11) x1 := by
  unfold wpX_askAllBut
  exact ej_askP hc h H
theorem ej_askA {post : St2 → Prop} (hc : c ≤ 6) (h : ∀ j, j < 8 → a1 j = 0) (H : post ((nI l), (nI c), 0, le, pk, a1, a2, a3, a4, a5, a6, a7, a8, a9, a10, a11)) : wpX_askAll post ((nI l), (nI c), q, le, pk, a1, a2, a3, a4, a5, a6, a7, a8, a9, a10, a11) := by
  unfold wpX_askAll
  exact ej_askB hc h H
theorem ej_ask {post : St2 → Prop} {x y : Int32} (H : post ((nI l), (nI c), 1, le, pk, a1, a2, a3, a4, a5, a6, (upd a7 0 x.toInt8.toInt32), (upd a8 0 y.toInt8.toInt32), a9, a10, a11)) : wpX_ask post ((nI l), (nI c), 0, le, pk, a1, a2, a3, a4, a5, a6, a7, a8, a9, a10, a11) x y :=
  pk_le 8 0 (fun z => absurd z (by omega)) (fun _ => ⟨pk_in 0 8 (by omega), nm_r (e' := upd a7 0 x.toInt8.toInt32) rfl ⟨pk_in 0 8 (by omega), nm_r (e' := upd a8 0 y.toInt8.toInt32) rfl (nm_r (e' := 1) (by decide) H)⟩⟩)
theorem ej_sb23 {post : St2 → Prop} (h : ∀ j, j < 4 → a4 j = 0) (H : post ((nI l), (nI c), q, le, pk, a1, a2, a3, a4, a5, a6, a7, a8, a9, a10, a11)) : ∃ n, wX_shutBlocks_23 post n 0 (nI l) (nI c) q le pk a1 a2 a3 a4 a5 a6 a7 a8 a9 a10 a11 :=
  pk_loop (σ := Unit) (fun n i _ => wX_shutBlocks_23 post n (nI i) (nI l) (nI c) q le pk a1 a2 a3 a4 a5 a6 a7 a8 a9 a10 a11) (fun _ _ => True) 4 0 () (by omega) trivial
    (fun n _ _ => pk_le 4 4 (fun _ => H) (fun z => absurd z (by omega)))
    (fun n i _ hi _ hw => pk_le 4 i (fun z => absurd z (by omega)) (fun _ => ⟨pk_in i 4 hi, br_t (by rw [nI_clamp (by omega)]; exact h i hi) (nm_r (nI_1 i) (hw () trivial))⟩))
theorem ej_sb {post : St2 → Prop} (h : ∀ j, j < 4 → a4 j = 0) (H : ∀ a, (∀ j, j < 48 → a j = 0) → post ((nI l), (nI c), q, le, pk, a1, a2, a3, a4, a5, a6, a7, a8, a9, a, a11)) : wpX_shutBlocks post ((nI l), (nI c), q, le, pk, a1, a2, a3, a4, a5, a6, a7, a8, a9, a10, a11) :=
  pk_loop (fun n i s => wX_shutBlocks_2 post (nI l) (nI c) q le pk n (nI i) a1 a2 a3 a4 a5 a6 a7 a8 a9 s a11) (fun i s => ∀ j, j < i → s j = 0) 48 0 a10 (by omega) (fun j hj => absurd hj (by omega))
    (fun n s hs => pk_le 48 48 (fun _ => ej_sb23 h (H s hs)) (fun z => absurd z (by omega)))
    (fun n i s hi hs hw => pk_le 48 i (fun z => absurd z (by omega)) (fun _ => ⟨pk_in i 48 hi, nm_r (e' := upd s i 0) (by rw [nI_clamp (by omega)]) (nm_r (nI_1 i) (hw _ (ej_fill hs)))⟩))
theorem ej_gr0 {post : Int32 → Prop} {x : Int32} (H : post (-1)) : wpX_greatestReleaseBelow post ((nI l), (nI c), 0, le, pk, a1, a2, a3, a4, a5, a6, a7, a8, a9, a10, a11) x :=
  Exists.intro 1 (pk_le 0 0 (fun _ => H) (fun z => absurd z (by omega)))
theorem ej_gr1 {post : Int32 → Prop} {r : Nat} (hr : r ≤ 40) (h7 : a7 0 = nI r) (H : post (nI r)) : wpX_greatestReleaseBelow post ((nI l), (nI c), 1, le, pk, a1, a2, a3, a4, a5, a6, a7, a8, a9, a10, a11) 41 :=
  Exists.intro 2 (pk_le 1 0 (fun z => absurd z (by omega)) (fun _ => ⟨pk_in 0 8 (by omega), pk_le 41 r (fun z => absurd z (by omega)) (fun _ => ⟨pk_in 0 8 (by omega), br_f (fun z => ej_nm1 (show r < 2 ^ 31 by omega) (h7 ▸ z)) ⟨pk_in 0 8 (by omega), nm_r h7 (nm_r (nI_1 0) (pk_le 1 1 (fun _ => H) (fun z => absurd z (by omega))))⟩⟩) (hy := h7)⟩))
theorem ej_gr2 {post : Int32 → Prop} {r : Nat} (hr : r ≤ 40) (h7 : a7 0 = nI r) (H : post (-1)) : wpX_greatestReleaseBelow post ((nI l), (nI c), 1, le, pk, a1, a2, a3, a4, a5, a6, a7, a8, a9, a10, a11) (nI r) :=
  Exists.intro 2 (pk_le 1 0 (fun z => absurd z (by omega)) (fun _ => ⟨pk_in 0 8 (by omega), pk_le r r (fun _ => nm_r (nI_1 0) (pk_le 1 1 (fun _ => H) (fun z => absurd z (by omega)))) (fun z => absurd z (by omega)) (hy := h7)⟩))
theorem ej_cw {post : Int32 → Prop} {r d : Nat} (hr : r ≤ 40) (hd : d ≤ 40) (h7 : a7 0 = nI r) (h8 : a8 0 = nI d) (H : post 1) : wpX_countWithin post ((nI l), (nI c), 1, le, pk, a1, a2, a3, a4, a5, a6, a7, a8, a9, a10, a11) (nI r) (nI d) :=
  Exists.intro 2 (pk_le 1 0 (fun z => absurd z (by omega)) (fun _ => ⟨pk_in 0 8 (by omega), pk_lt r r (fun z => absurd z (by omega)) (fun _ => ⟨pk_in 0 8 (by omega), pk_lt d d (fun z => absurd z (by omega)) (fun _ => nm_r (e' := 1) (by decide) (nm_r (nI_1 0) (pk_le 1 1 (fun _ => H) (fun z => absurd z (by omega))))) (hy := h8)⟩) (hx := h7)⟩))
theorem ej_ob {post : Int32 → Prop} {x : Int32} {t : Nat} (hx : x = nI t) (ht : t < 48) (h : a10 t = 0) (H : post (nI t)) : wpX_openAtOrBefore post ((nI l), (nI c), q, le, pk, a1, a2, a3, a4, a5, a6, a7, a8, a9, a10, a11) x := by
  subst hx
  exact Exists.intro 1 (br_f (nI_pos (by omega)) ⟨pk_in t 48 ht, br_t (by rw [nI_clamp (by omega)]; exact h) (br_t (nI_pos' (by omega)) H)⟩)
theorem ej_bf {post : Int32 → Prop} {d : Nat} (hl : l ≤ d) (hd : d ≤ 40) (h : ∀ j, j < 48 → a10 j = 0) (H : post (nI (d - l))) : wpX_backFrom post ((nI l), (nI c), q, le, pk, a1, a2, a3, a4, a5, a6, a7, a8, a9, a10, a11) (nI d) 1 :=
  br_f (by decide) (Exists.intro 2 (pk_le 1 0 (fun z => absurd z (by omega)) (fun _ => ej_ob (t := d - l) (pk_sub hl) (by omega) (h _ (by omega)) (nm_r (nI_1 0) (pk_le 1 1 (fun _ => H) (fun z => absurd z (by omega)))))))
theorem ej_sh {post : St2 → Prop} {r : Nat} (hr : r ≤ 40) (i : Nat) (hi : i ≤ 48) (H : ∀ a, (∀ j, r ≤ j → a j = a10 j) → post ((nI l), (nI c), q, le, pk, a1, a2, a3, a4, a5, a6, a7, a8, a9, a, a11)) : ∃ n, wX_shutBetween_12 post (nI r) (nI l) (nI c) q le pk n (nI i) a1 a2 a3 a4 a5 a6 a7 a8 a9 a10 a11 := by
  by_cases h : r ≤ i
  · exact Exists.intro 1 (pk_le r i (fun _ => H a10 (fun _ _ => rfl)) (fun z => absurd z (by omega)))
  · exact pk_loop (fun n i s => wX_shutBetween_12 post (nI r) (nI l) (nI c) q le pk n (nI i) a1 a2 a3 a4 a5 a6 a7 a8 a9 s a11) (fun _ s => ∀ j, r ≤ j → s j = a10 j) r i a10 (by omega) (fun _ _ => rfl)
      (fun n s hs => pk_le r r (fun _ => H s hs) (fun z => absurd z (by omega)))
      (fun n i s hi hs hw => pk_le r i (fun z => absurd z (by omega)) (fun _ => pk_le 48 i (fun z => absurd z (by omega)) (fun _ => ⟨pk_in i 48 (by omega), nm_r (e' := upd s i 1) (by rw [nI_clamp (by omega)]) (nm_r (nI_1 i) (hw _ (fun j hj => by rw [pk_un (by omega)]; exact hs j hj)))⟩)))
theorem ej_shB {post : St2 → Prop} {k r : Nat} (hk : k ≤ 40) (hl : l ≤ 6) (hr : r ≤ 40) (H : ∀ a, (∀ j, r ≤ j → a j = a10 j) → post ((nI l), (nI c), q, le, pk, a1, a2, a3, a4, a5, a6, a7, a8, a9, a, a11)) : wpX_shutBetween post ((nI l), (nI c), q, le, pk, a1, a2, a3, a4, a5, a6, a7, a8, a9, a10, a11) (nI k - nI l) (nI r) := by
  by_cases h : l ≤ k
  · have e : nI k - nI l = nI (k - l) := pk_sub h
    exact br_t (by rw [e]; exact nI_pos' (by omega)) (nm_r (by rw [e]; exact nI_1 (k - l)) (ej_sh hr (k - l + 1) (by omega) H))
  · exact br_f (Int32.not_le.mpr (pk_sneg (by omega) (by omega))) (ej_sh hr 0 (by omega) H)
theorem ej_sbf {post : Int32 → St2 → Prop} {r d : Nat} (hl : l ≤ 6) (hrd : r + l ≤ d) (hd : d ≤ 40) (h7 : a7 0 = nI r) (h8 : a8 0 = nI d) (h : ∀ j, j < 48 → a10 j = 0) (H : ∀ a, (∀ j, r ≤ j → a j = a10 j) → post 1 ((nI l), (nI c), 1, le, pk, a1, a2, a3, a4, a5, a6, a7, a8, a9, a, a11)) : wpX_shutBefore post ((nI l), (nI c), 1, le, pk, a1, a2, a3, a4, a5, a6, a7, a8, a9, a10, a11) (nI r) :=
  Exists.intro 2 (pk_le 1 0 (fun z => absurd z (by omega)) (fun _ => ⟨pk_in 0 8 (by omega), nm_r h8 (ej_cw (by omega) hd h7 h8 (ej_bf (by omega) hd h (pk_le 41 (d - l) (fun z => absurd z (by omega)) (fun _ => nm_r (nI_1 0) (pk_le 1 1 (fun _ => pk_le r (d - l) (fun _ => pk_le (r + l) (d - l) (fun _ => H a10 (fun _ _ => rfl)) (fun _ => ej_shB (by omega) hl (by omega) H) (hx := nI_add r l)) (fun z => absurd z (by omega))) (fun z => absurd z (by omega)))))))⟩))
theorem ej_di0 {post : Int32 → St2 → Prop} (H : post 1 ((nI l), (nI c), 0, 0, pk, a1, a2, a3, a4, a5, a6, a7, a8, a9, a10, a11)) : wpX_dispatch post ((nI l), (nI c), 0, le, pk, a1, a2, a3, a4, a5, a6, a7, a8, a9, a10, a11) :=
  Exists.intro 1 (pk_le 0 0 (fun _ => Exists.intro 1 (pk_le 0 0 (fun _ => H) (fun z => absurd z (by omega)))) (fun z => absurd z (by omega)))
theorem ej_lw {post : Int32 → Prop} {r : Nat} (hr : r ≤ 40) (h7 : a7 0 = nI r) (h9 : a9 0 = 0) (H : post (nI r)) : wpX_leastWaitingRelease post ((nI l), (nI c), 1, le, pk, a1, a2, a3, a4, a5, a6, a7, a8, a9, a10, a11) :=
  Exists.intro 2 (pk_le 1 0 (fun z => absurd z (by omega)) (fun _ => ⟨pk_in 0 8 (by omega), br_t h9 ⟨pk_in 0 8 (by omega), pk_le 41 r (fun z => absurd z (by omega)) (fun _ => ⟨pk_in 0 8 (by omega), nm_r h7 (nm_r (nI_1 0) (pk_le 1 1 (fun _ => H) (fun z => absurd z (by omega))))⟩) (hy := h7)⟩⟩))
theorem ej_mu {post : Int32 → Prop} {r : Nat} (hr : r ≤ 40) (h7 : a7 0 = nI r) (h9 : a9 0 = 0) (H : post 0) : wpX_mostUrgent post ((nI l), (nI c), 1, le, pk, a1, a2, a3, a4, a5, a6, a7, a8, a9, a10, a11) (nI r) :=
  Exists.intro 2 (pk_le 1 0 (fun z => absurd z (by omega)) (fun _ => ⟨pk_in 0 8 (by omega), br_t h9 ⟨pk_in 0 8 (by omega), pk_lt r r (fun z => absurd z (by omega)) (fun _ => br_t (by decide) (nm_r (nI_1 0) (pk_le 1 1 (fun _ => H) (fun z => absurd z (by omega))))) (hy := h7)⟩⟩))
theorem ej_oa {post : Int32 → Prop} {r : Nat} (hr : r ≤ 40) (h : a10 r = 0) (H : post (nI r)) : wpX_openAtOrAfter post ((nI l), (nI c), q, le, pk, a1, a2, a3, a4, a5, a6, a7, a8, a9, a10, a11) (nI r) :=
  Exists.intro 1 (pk_le 47 r (fun z => absurd z (by omega)) (fun _ => ⟨pk_in r 48 (by omega), br_t (by rw [nI_clamp (by omega)]; exact h) H⟩))
theorem ej_d51 {post : Int32 → St2 → Prop} {J : Int32 → Int32 → (Nat → Int32) → (Nat → Int32) → (Nat → Int32) → (Nat → Int32) → (Nat → Int32) → (Nat → Int32) → (Nat → Int32) → (Nat → Int32) → (Nat → Int32) → (Nat → Int32) → (Nat → Int32) → Prop} {r d : Nat} (hrd : r + l ≤ d) (hd : d ≤ 40) (h7 : a7 0 = nI r) (h8 : a8 0 = nI d) (h9 : a9 0 = 0) (h : a10 r = 0) (H : J (nI (r + l)) (nI 1) a1 a2 a3 a4 a5 a6 a7 a8 (upd a9 0 1) a10 a11) : wX_dispatch_51 post J 0 (nI r) (nI l) (nI c) 1 le pk a1 a2 a3 a4 a5 a6 a7 a8 a9 a10 a11 :=
  ej_oa (by omega) h (ej_mu (by omega) h7 h9 (br_f (by decide) ⟨pk_in 0 8 (by omega), pk_le (r + l) d (fun _ => ⟨pk_in 0 8 (by omega), nm_r (e' := upd a9 0 1) rfl (nm_r (nI_add r l) (nm_r (nI_1 0) H))⟩) (fun z => absurd z (by omega)) (hx := nI_add r l) (hy := h8)⟩))
theorem ej_d27 {post : Int32 → St2 → Prop} {r d : Nat} (hrd : r + l ≤ d) (hd : d ≤ 40) (h7 : a7 0 = nI r) (h8 : a8 0 = nI d) (h9 : a9 0 = 0) (h : a10 r = 0) (H : ∀ e b, post 1 ((nI l), (nI c), 1, e, pk, a1, a2, a3, a4, a5, a6, a7, a8, b, a10, a11)) : ∃ n, wX_dispatch_27 post (nI l) (nI c) 1 le pk n 0 0 a1 a2 a3 a4 a5 a6 a7 a8 a9 a10 a11 := by
  refine Exists.intro 2 (pk_le 1 0 (fun z => absurd z (by omega)) (fun _ => ej_lw (by omega) h7 h9 ?_))
  have t : wX_dispatch_51 post (wX_dispatch_27 post (nI l) (nI c) 1 le pk 1) 0 (nI r) (nI l) (nI c) 1 le pk a1 a2 a3 a4 a5 a6 a7 a8 a9 a10 a11 := ej_d51 hrd hd h7 h8 h9 h (pk_le 1 1 (fun _ => H _ _) (fun z => absurd z (by omega)))
  refine pk_le r 0 (fun z => ?_) (fun _ => t)
  have e : r = 0 := by omega
  rw [e] at t
  exact t
theorem ej_di1 {post : Int32 → St2 → Prop} {r d : Nat} (hrd : r + l ≤ d) (hd : d ≤ 40) (h7 : a7 0 = nI r) (h8 : a8 0 = nI d) (h : a10 r = 0) (H : ∀ e b, post 1 ((nI l), (nI c), 1, e, pk, a1, a2, a3, a4, a5, a6, a7, a8, b, a10, a11)) : wpX_dispatch post ((nI l), (nI c), 1, le, pk, a1, a2, a3, a4, a5, a6, a7, a8, a9, a10, a11) :=
  Exists.intro 2 (pk_le 1 0 (fun z => absurd z (by omega)) (fun _ => ⟨pk_in 0 8 (by omega), nm_r (e' := upd a9 0 0) rfl (nm_r (nI_1 0) (pk_le 1 1 (fun _ => ej_d27 hrd hd h7 h8 pk_us h H) (fun z => absurd z (by omega))))⟩))
theorem ej_fe0 {post : Int32 → St2 → Prop} (h4 : ∀ j, j < 4 → a4 j = 0) (H : ∀ a, post 1 ((nI l), (nI c), 0, 0, pk, a1, a2, a3, a4, a5, a6, a7, a8, a9, a, a11)) : wpX_feasible post ((nI l), (nI c), 0, le, pk, a1, a2, a3, a4, a5, a6, a7, a8, a9, a10, a11) := by
  unfold wpX_feasible
  exact ej_sb h4 (fun a _ => Exists.intro 1 (pk_le 8 0 (fun z => absurd z (by omega)) (fun _ => ej_gr0 (br_f (by decide) (ej_di0 ⟨rfl, H a⟩)))))
theorem ej_fe1 {post : Int32 → St2 → Prop} {r d : Nat} (hl : l ≤ 6) (hrd : r + l ≤ d) (hd : d ≤ 40) (h7 : a7 0 = nI r) (h8 : a8 0 = nI d) (h4 : ∀ j, j < 4 → a4 j = 0) (H : ∀ e b a, post 1 ((nI l), (nI c), 1, e, pk, a1, a2, a3, a4, a5, a6, a7, a8, b, a, a11)) : wpX_feasible post ((nI l), (nI c), 1, le, pk, a1, a2, a3, a4, a5, a6, a7, a8, a9, a10, a11) := by
  unfold wpX_feasible
  exact ej_sb h4 (fun a ha => Exists.intro 2 (pk_le 8 0 (fun z => absurd z (by omega)) (fun _ => ej_gr1 (by omega) h7 (br_t (nI_pos' (by omega)) (ej_sbf hl hrd hd h7 h8 ha (fun b hb => br_f (by decide) (nm_r (nI_1 0) (pk_le 8 1 (fun z => absurd z (by omega)) (fun _ => ej_gr2 (by omega) h7 (br_f (by decide) (ej_di1 hrd hd h7 h8 ((hb r (Nat.le_refl r)).trans (ha r (by omega))) (fun e b' => ⟨rfl, H e b' b⟩))))))))))))
end
end
section
/-! the calls that the law makes, over a planner with no job and no block -/
section
variable {l c : Nat} {q le pk : Int32} {a1 a2 a3 a4 a5 a6 a7 a8 a9 a10 a11 : Nat → Int32}
theorem ej_probe {post : Int32 → St2 → Prop} {x y : Int32} (hl : l ≤ 6) (hc1 : 1 ≤ c) (hc : c ≤ 6) (h1 : ∀ j, j < 8 → a1 j = 0) (h4 : ∀ j, j < 4 → a4 j = 0)
    (H : ∀ v q' e b7 b8 b9 b10, (ej_bad l x y → v = -1) → (¬ ej_bad l x y → v = 0) → post v ((nI l), (nI c), q', e, pk, a1, a2, a3, a4, a5, a6, b7, b8, b9, b10, a11)) : wpX_probe post ((nI l), (nI c), q, le, pk, a1, a2, a3, a4, a5, a6, a7, a8, a9, a10, a11) x y := by
  unfold wpX_probe
  refine ej_win (fun hb => br_t rfl (H (-1) _ _ _ _ _ _ (fun _ => rfl) (fun z => absurd hb z))) (fun hg => br_f (by decide) (ej_free hc1 hc h1 (br_t (by decide) (ej_askA hc h1 (ej_ask ?_)))))
  obtain ⟨r, d, ex, ey, hrd, hd⟩ := ej_good hl hg
  have e7 : upd a7 0 x.toInt8.toInt32 0 = nI r := by rw [pk_us, ex, ej_byte r (by omega)]
  have e8 : upd a8 0 y.toInt8.toInt32 0 = nI d := by rw [pk_us, ey, ej_byte d (by omega)]
  exact ej_fe1 hl hrd hd e7 e8 h4 (fun e b a => br_f (by decide) (H 0 _ _ _ _ _ _ (fun z => absurd z hg) (fun _ => rfl)))
theorem ej_holds {post : Int32 → Prop} {x : Int32} (hc : c ≤ 6) (h1 : ∀ j, j < 8 → a1 j = 0) (H : post 0) : wpX_holds post ((nI l), (nI c), q, le, pk, a1, a2, a3, a4, a5, a6, a7, a8, a9, a10, a11) x := by
  refine br_c (fun _ => H) (fun hx => ?_)
  obtain ⟨j, hj, rfl⟩ := nI_of hx
  exact pk_le c j (fun _ => H) (fun z => ⟨pk_in j 8 (by omega), br_t (by rw [nI_clamp (by omega)]; exact h1 j (by omega)) H⟩)
theorem ej_move {post : Int32 → St2 → Prop} {x y z : Int32} (hc : c ≤ 6) (h1 : ∀ j, j < 8 → a1 j = 0) (H : post (-2) ((nI l), (nI c), q, le, pk, a1, a2, a3, a4, a5, a6, a7, a8, a9, a10, a11)) : wpX_move post ((nI l), (nI c), q, le, pk, a1, a2, a3, a4, a5, a6, a7, a8, a9, a10, a11) x y z := by
  unfold wpX_move
  exact ej_holds hc h1 (br_t rfl H)
theorem ej_wdr {post : Int32 → St2 → Prop} {x : Int32} (hc : c ≤ 6) (h1 : ∀ j, j < 8 → a1 j = 0) (H : post 0 ((nI l), (nI c), q, le, pk, a1, a2, a3, a4, a5, a6, a7, a8, a9, a10, a11)) : wpX_withdraw post ((nI l), (nI c), q, le, pk, a1, a2, a3, a4, a5, a6, a7, a8, a9, a10, a11) x := by
  unfold wpX_withdraw
  exact ej_holds hc h1 (br_t rfl H)
theorem ej_unb {post : Int32 → St2 → Prop} {x : Int32} (h4 : ∀ j, j < 4 → a4 j = 0) (H : post 0 ((nI l), (nI c), q, le, pk, a1, a2, a3, a4, a5, a6, a7, a8, a9, a10, a11)) : wpX_unblock post ((nI l), (nI c), q, le, pk, a1, a2, a3, a4, a5, a6, a7, a8, a9, a10, a11) x := by
  refine br_c (fun _ => H) (fun hx => ?_)
  obtain ⟨j, hj, rfl⟩ := nI_of hx
  exact pk_le 4 j (fun _ => H) (fun z => ⟨pk_in j 4 (by omega), br_t (by rw [nI_clamp (by omega)]; exact h4 j (by omega)) H⟩)
theorem ej_eend {post : Int32 → St2 → Prop} (hc : c ≤ 6) (h1 : ∀ j, j < 8 → a1 j = 0) (h4 : ∀ j, j < 4 → a4 j = 0) (H : ∀ a, post 0 ((nI l), (nI c), 0, 0, pk, a1, a2, a3, a4, a5, a6, a7, a8, a9, a, a11)) : wpX_earliestEnd post ((nI l), (nI c), q, le, pk, a1, a2, a3, a4, a5, a6, a7, a8, a9, a10, a11) := by
  unfold wpX_earliestEnd
  exact ej_askA hc h1 (ej_fe0 h4 H)
theorem ej_raise {post : St2 → Prop} {x : Int32} (H : post ((nI l), (nI c), 0, le, pk, a1, a2, a3, a4, a5, a6, a7, a8, a9, a10, a11)) : wpX_raise post ((nI l), (nI c), 0, le, pk, a1, a2, a3, a4, a5, a6, a7, a8, a9, a10, a11) x :=
  Exists.intro 1 (pk_le 0 0 (fun _ => H) (fun z => absurd z (by omega)))
theorem ej_lb1 {post : Int32 → St2 → Prop} (hc : c ≤ 6) (h1 : ∀ j, j < 8 → a1 j = 0) (h4 : ∀ j, j < 4 → a4 j = 0) (n lo hi k : Nat) (hk : k < 8) (hlo : lo < 40)
    (he : hi = (lo + 41) / 2) (H : ∀ a, wX_latestBegin_7 post n (nI hi) 40 (nI (k + 1)) (nI l) (nI c) 0 0 pk a1 a2 a3 a4 a5 a6 a7 a8 a9 a a11) : wX_latestBegin_7 post (n + 1) (nI lo) 40 (nI k) (nI l) (nI c) q le pk a1 a2 a3 a4 a5 a6 a7 a8 a9 a10 a11 := by
  have e : ((nI lo + 40) + 1) >>> ((1 : Int32) &&& 31) = nI hi := by
    rw [show (40 : Int32) = nI 40 from rfl, nI_add, nI_1, pk_shrN (by omega) _ 1 (by decide), he]
  exact pk_le 8 k (fun z => absurd z (by omega)) (fun _ => pk_le 40 lo (fun z => absurd z (by omega)) (fun _ => nm_r e (ej_askA hc h1 (ej_raise (ej_fe0 h4 (fun a => br_f (by decide) (nm_r (nI_1 k) (H a))))))))
theorem ej_lb {post : Int32 → St2 → Prop} (hc : c ≤ 6) (h1 : ∀ j, j < 8 → a1 j = 0) (h4 : ∀ j, j < 4 → a4 j = 0) (H : ∀ q' e a, post 40 ((nI l), (nI c), q', e, pk, a1, a2, a3, a4, a5, a6, a7, a8, a9, a, a11)) : wpX_latestBegin post ((nI l), (nI c), q, le, pk, a1, a2, a3, a4, a5, a6, a7, a8, a9, a10, a11) :=
  Exists.intro 7 (ej_lb1 hc h1 h4 6 0 20 0 (by omega) (by omega) (by omega) (fun _ => ej_lb1 hc h1 h4 5 20 30 1 (by omega) (by omega) (by omega) (fun _ => ej_lb1 hc h1 h4 4 30 35 2 (by omega) (by omega) (by omega) (fun _ => ej_lb1 hc h1 h4 3 35 38 3 (by omega) (by omega) (by omega) (fun _ => ej_lb1 hc h1 h4 2 38 39 4 (by omega) (by omega) (by omega) (fun _ => ej_lb1 hc h1 h4 1 39 40 5 (by omega) (by omega) (by omega) (fun _ => pk_le 8 6 (fun z => absurd z (by omega)) (fun _ => pk_le 40 40 (fun _ => H _ _ _) (fun z => absurd z (by omega))))))))))
end
end
section
/-! the law -/
theorem ej_145 {post : Int32 → St0 → Prop} {mc ms kc ks : Nat} {z v : Int32} (hv : v = z) (H : post 1 ()) : wL_lawOf_145 post mc ms (-2) 0 0 0 40 z v kc ks :=
  br_t hv (br_t rfl (br_t rfl (br_t rfl (br_t rfl (br_t rfl H)))))
theorem ej_84 {post : Int32 → St0 → Prop} {mc ms kc ks l : Nat} {x y v : Int32} (hb : ej_bad l x y → v = -1) (hg : ¬ ej_bad l x y → v = 0) (H : post 1 ()) : wL_lawOf_84 post mc ms x y v (-2) 0 0 0 40 (nI l) kc ks := by
  have B : ej_bad l x y → wL_lawOf_106 post mc ms x y v (-2) 0 0 0 40 (nI l) kc ks := fun h => br_f (by decide) (br_f (by decide) (ej_145 (hb h) H))
  refine br_c (fun h => B (Or.inl h)) (fun h1 => br_c (fun h => B (Or.inr (Or.inr (Or.inl h)))) (fun h3 => br_c (fun h => B (Or.inr (Or.inr (Or.inr (Or.inl h))))) (fun h4 => br_c (fun h2 => ?_) (fun h => B (Or.inr (Or.inl (Int32.not_le.mp h)))))))
  refine br_t rfl (br_c (fun h5 => br_t rfl (ej_145 (hg ?_) H)) (fun h => br_f (by decide) (ej_145 (hb (Or.inr (Or.inr (Or.inr (Or.inr (Int32.not_le.mp h)))))) H)))
  exact fun z => z.elim h1 (fun z => z.elim (Int32.not_lt.mpr h2) (fun z => z.elim h3 (fun z => z.elim h4 (Int32.not_lt.mpr h5))))
theorem ej_init {post : St2 → Prop} {p0 p1 : Int32} {l c : Nat} (hl : ∀ (P : Int32 → Prop), P (nI l) → ((1 ≤ p0 → ((p0 ≤ 6 → P p0) ∧ (¬ p0 ≤ 6 → P 6))) ∧ (¬ 1 ≤ p0 → P 1)))
    (hc : ∀ (P : Int32 → Prop), P (nI c) → ((1 ≤ p1 → ((p1 ≤ 6 → P p1) ∧ (¬ p1 ≤ 6 → P 6))) ∧ (¬ 1 ≤ p1 → P 1)))
    (H : post (nI l, nI c, 0, 0, 0, (fun _ => 0), (fun _ => 0), (fun _ => 0), (fun _ => 0), (fun _ => 0), (fun _ => 0), (fun _ => 0), (fun _ => 0), (fun _ => 0), (fun _ => 0), (fun _ => 0))) : wpX_init post 11 116 (0, 0, 0, 0, 0) p0 p1 := by
  unfold wpX_init
  refine ⟨by omega, by omega, by omega, by omega, by omega, by omega, by omega, by omega, by omega, by omega, by omega, by omega, by omega, by omega, by omega, by omega, by omega, by omega, by omega, by omega, by omega, by omega, ?_⟩
  exact hl (fun z => wX_init_111 post 11 116 p1 z 11 116 0 0 0 0 0 (fun _ => 0) (fun _ => 0) (fun _ => 0) (fun _ => 0) (fun _ => 0) (fun _ => 0) (fun _ => 0) (fun _ => 0) (fun _ => 0) (fun _ => 0) (fun _ => 0)) (hc (fun z => post (nI l, z, 0, 0, 0, (fun _ => 0), (fun _ => 0), (fun _ => 0), (fun _ => 0), (fun _ => 0), (fun _ => 0), (fun _ => 0), (fun _ => 0), (fun _ => 0), (fun _ => 0), (fun _ => 0))) H)
theorem ej_lawOf {post : Int32 → St0 → Prop} (p0 p1 p2 p3 p4 p5 : Int32) (H : post 1 ()) : wpL_lawOf post 12 132 () p0 p1 p2 p3 p4 p5 := by
  obtain ⟨l, hl1, hl, hpl⟩ := ej_clamp p0
  obtain ⟨c, hc1, hc, hpc⟩ := ej_clamp p1
  have z1 : ∀ j, j < 8 → (fun _ : Nat => (0 : Int32)) j = 0 := fun _ _ => rfl
  have z4 : ∀ j, j < 4 → (fun _ : Nat => (0 : Int32)) j = 0 := fun _ _ => rfl
  unfold wpL_lawOf
  refine ⟨by omega, by omega, 11, 116, by omega, by omega, ?_⟩
  refine ej_init hpl hpc (ej_probe hl hc1 hc z1 z4 (fun v q e b7 b8 b9 b10 hb hg => ?_))
  refine ej_move hc z1 (ej_wdr hc z1 (ej_unb z4 (ej_eend hc z1 z4 (fun a => ej_lb hc z1 z4 (fun q' e' a' => ?_)))))
  exact hpl (fun z => wL_lawOf_84 post 12 132 p2 p3 v (-2) 0 0 0 40 z (1 + 11) (16 + 116)) (ej_84 hb hg H)
theorem ej_cell {post : Int32 → Prop} {L : Nat} {xs : Nat → Int32} {u : St0} {x : Int32} (k : Nat) (hL : L ≤ 6) (hk : k < 8) (hx : x = nI k) (H : ∀ v, post v) : wpL_cellAt post L xs u x := by
  subst hx
  exact pk_le L k (fun _ => H _) (fun z => ⟨pk_in k L z, H _⟩)
theorem i_vc (xs : Nat → Int32) (L : Nat) (hL : L ≤ 6) : wpL_law (fun r => r = 1) L xs := by
  unfold wpL_law
  exact ej_cell 0 hL (by omega) rfl (fun r1 => ej_cell 1 hL (by omega) rfl (fun r2 => ej_cell 2 hL (by omega) rfl (fun r3 => ej_cell 3 hL (by omega) rfl (fun r4 => ej_cell 4 hL (by omega) rfl (fun r5 => ej_cell 5 hL (by omega) rfl (fun r6 => ⟨12, 132, by omega, by omega, ej_lawOf r1 r2 r3 r4 r5 r6 rfl⟩))))))
end
