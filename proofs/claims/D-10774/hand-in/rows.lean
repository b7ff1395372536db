section
/-- an int between two bounds -/
def zq_N (l h : Nat) (x : Int32) : Prop := ∃ k : Nat, l ≤ k ∧ k ≤ h ∧ x = nI k
/-- the first n places of an array lie between t and FAR -/
def zq_D (t n : Nat) (a : Nat → Int32) : Prop := ∀ j, j < n → zq_N t 1000000 (a j)
/-- the timetable: line 0 has at most two stops, its offsets don't fall, starts and footpaths are small -/
def zq_T (a1 a2 a3 a5 a6 : Nat → Int32) : Prop := (∃ k : Nat, k ≤ 2 ∧ a1 0 = nI k) ∧ (∀ j, zq_N 0 7 (a2 j)) ∧ (∀ j, zq_N 0 30 (a3 j)) ∧ a3 0 = nI 0 ∧ (∀ j, zq_N 0 500 (a5 j)) ∧ (∀ j, zq_N 0 30 (a6 j))
/-- no stop -/
def zq_bad (p : Int32) : Prop := p < 0 ∨ nI 8 ≤ p
theorem zq_Nu {l h : Nat} {a : Nat → Int32} {k : Nat} {x : Int32} (ha : ∀ j, zq_N l h (a j)) (hx : zq_N l h x) : ∀ j, zq_N l h (upd a k x j) := by
  intro j
  by_cases e : j = k
  · rw [e, pk_us]; exact hx
  · rw [pk_un e]; exact ha j
theorem zq_Dk {t n : Nat} {a : Nat → Int32} {k : Nat} {x : Int32} (ha : zq_D t n a) (hx : zq_N t 1000000 x) : zq_D t n (upd a k x) := by
  intro j hj
  by_cases e : j = k
  · rw [e, pk_us]; exact hx
  · rw [pk_un e]; exact ha j hj
theorem zq_Ds {t n : Nat} {a : Nat → Int32} {x : Int32} (ha : zq_D t n a) (hx : zq_N t 1000000 x) : zq_D t (n + 1) (upd a n x) := by
  intro j hj
  by_cases e : j = n
  · rw [e, pk_us]; exact hx
  · rw [pk_un e]; exact ha j (by omega)
theorem zq_ix (i : Nat) : nI 0 * 6 + nI i = nI i := by
  show nI 0 * nI 6 + nI i = nI i
  rw [pk_mul, nI_add, Nat.zero_mul, Nat.zero_add]
theorem zq_i8 (a b : Nat) : nI a * 8 + nI b = nI (a * 8 + b) := by
  show nI a * nI 8 + nI b = nI (a * 8 + b)
  rw [pk_mul, nI_add]
theorem zq_7 {p : Int32} (h : nI 8 ≤ p) : 7 < p := by
  rw [Int32.le_iff_toInt_le, nI_toInt (by omega)] at h
  have e : (7 : Int32).toInt = 7 := by decide
  rw [Int32.lt_iff_toInt_lt, e]
  omega
theorem zq_8 {p : Int32} (h : nI 8 ≤ p) : ¬ p < 8 := by
  rw [Int32.le_iff_toInt_le, nI_toInt (by omega)] at h
  have e : (8 : Int32).toInt = 8 := by decide
  rw [Int32.lt_iff_toInt_lt, e]
  omega
theorem zq_one {p : Int32} (h : ¬ p < 1) : ¬ p < 0 := by
  have e : (1 : Int32).toInt = 1 := by decide
  have e0 : (0 : Int32).toInt = 0 := by decide
  rw [Int32.lt_iff_toInt_lt, e] at h
  rw [Int32.lt_iff_toInt_lt, e0]
  omega
theorem zq_z1 {p : Int32} (h0 : ¬ p < 0) (h : p < 1) : p = 0 := by
  have e : (1 : Int32).toInt = 1 := by decide
  have e0 : (0 : Int32).toInt = 0 := by decide
  rw [Int32.lt_iff_toInt_lt, e] at h
  rw [Int32.lt_iff_toInt_lt, e0] at h0
  rw [← Int32.toInt_inj, e0]
  omega
theorem zq_up {p c d : Int32} (h : p ≤ c) (hcd : c.toInt ≤ d.toInt) : p ≤ d := by
  rw [Int32.le_iff_toInt_le] at h ⊢
  omega
theorem zq_nlt {p c : Int32} (h : ¬ c < p) : p ≤ c := by
  rw [Int32.lt_iff_toInt_lt] at h
  rw [Int32.le_iff_toInt_le]
  omega
theorem zq_ltn {p c : Int32} (h : c < p) : ¬ p ≤ c := by
  rw [Int32.lt_iff_toInt_lt] at h
  rw [Int32.le_iff_toInt_le]
  omega
theorem zq_of {p : Int32} {c : Int32} (n : Nat) (hc : c.toInt = n) (h0 : ¬ p < 0) (h : p ≤ c) : ∃ k : Nat, k ≤ n ∧ p = nI k := nI_of2 hc h0 h
/-! the small tests -/
theorem zq_stB {post : Int32 → Prop} {p : Int32} (h : zq_bad p) (hp : post 0) : wpL_stop post () p :=
  br_c (fun _ => hp) (fun hn => br_c (fun _ => hp) (fun h7 => h.elim (fun z => absurd z hn) (fun z => absurd (zq_7 z) h7)))
theorem zq_stG {post : Int32 → Prop} {s : Nat} (h : s < 8) (hp : post 1) : wpL_stop post () (nI s) :=
  br_f (nI_pos (by omega)) (pk_lt 7 s (fun z => absurd z (by omega)) (fun _ => hp))
theorem zq_bsB {post : Int32 → Prop} {p : Int32} (h : zq_bad p) (hp : post 1) : wpX_badStop post () p :=
  br_c (fun _ => hp) (fun hn => br_c (fun h8 => h.elim (fun z => absurd z hn) (fun z => absurd h8 (zq_8 z))) (fun _ => hp))
theorem zq_bsG {post : Int32 → Prop} {s : Nat} (h : s < 8) (hp : post 0) : wpX_badStop post () (nI s) :=
  br_f (nI_pos (by omega)) (pk_lt s 8 (fun _ => hp) (fun z => absurd z (by omega)))
theorem zq_blB {post : Int32 → Prop} {ln tr b p : Int32} {a1 a2 a3 a4 a5 a6 a7 a8 a9 : Nat → Int32} (h : ln = 0 ∨ ln = 1 ∧ p ≠ 0) (hp : post 1) : wpX_badLine post (ln, tr, b, a1, a2, a3, a4, a5, a6, a7, a8, a9) p :=
  br_c (fun _ => hp) (fun hn => br_c (fun hl => h.elim (fun z => absurd (z ▸ hl) hn) (fun z => absurd (zq_z1 hn (z.1 ▸ hl)) z.2)) (fun _ => hp))
theorem zq_blG {post : Int32 → Prop} {tr b : Int32} {a1 a2 a3 a4 a5 a6 a7 a8 a9 : Nat → Int32} (hp : post 0) : wpX_badLine post (1, tr, b, a1, a2, a3, a4, a5, a6, a7, a8, a9) 0 :=
  br_f (by decide) (br_t (by decide) hp)
theorem zq_cell {post : Int32 → Prop} {L : Nat} {xs : Nat → Int32} (hL : L ≤ 6) (k : Nat) (hk : k < 6) (H : ∀ v, post v) : wpL_cellAt post L xs () (nI k) :=
  pk_le L k (fun _ => H _) (fun z => ⟨pk_in k L z, H _⟩)
end
section
/-! walkOn: the inner loop -/
theorem zq_w22 {post : St2 → Prop} {J : Int32 → Int32 → (Nat → Int32) → (Nat → Int32) → (Nat → Int32) → (Nat → Int32) → (Nat → Int32) → (Nat → Int32) → (Nat → Int32) → (Nat → Int32) → (Nat → Int32) → Prop} {ln tr b : Int32} {a1 a2 a3 a4 a5 a6 a7 a8 a9 : Nat → Int32} {t s : Nat} (ht : t ≤ 1000) (hs : s < 8) (h6 : ∀ j, zq_N 0 30 (a6 j)) (h7 : zq_D t 8 a7) (h8 : zq_D t 8 a8)
    (H : ∀ b' a8', zq_D t 8 a8' → (a7 s = nI t → a8' s = nI t) → (∀ j, a8 j = nI t → a8' j = nI t) → (∀ j, j ≠ s → a8' j = a8 j) → J (nI (s + 1)) b' a1 a2 a3 a4 a5 a6 a7 a8' a9) :
    ∃ n, wX_walkOn_22 post J (nI s) ln tr b a1 a2 a3 a4 a5 a6 a7 a8 a9 n (a7 s) 0 := by
  have hcs : (nI s).toNatClampNeg = s := nI_clamp (by omega)
  obtain ⟨k0, l0, u0, e0⟩ := h7 s hs
  obtain ⟨q, lq, uq, eq⟩ := h8 s hs
  refine pk_loop (fun n i (x : Int32) => wX_walkOn_22 post J (nI s) ln tr b a1 a2 a3 a4 a5 a6 a7 a8 a9 n x (nI i)) (fun _ x => ∃ k : Nat, t ≤ k ∧ k ≤ 1000000 ∧ x = nI k ∧ (a7 s = nI t → k = t)) 8 0 (a7 s) (by omega) ⟨k0, l0, u0, e0, fun e => ?_⟩ ?_ ?_
  · rw [e0] at e
    exact (nI_eq (by omega) (by omega)).mp e
  · rintro n x ⟨k, lk, uk, rfl, hk⟩
    refine pk_le 8 8 (fun _ => ⟨pk_in s 8 hs, pk_le q k (fun z => nm_r (nI_1 s) ?_) (fun z => ⟨pk_in s 8 hs, nm_r (e' := upd a8 s (nI k)) (by rw [hcs]) (nm_e (nm_r (nI_1 s) ?_))⟩) (by rw [hcs]; exact eq)⟩) (fun z => absurd z (by omega))
    · refine H b a8 h8 (fun e => ?_) (fun j e => e) (fun j _ => rfl)
      have := hk e
      rw [eq, show q = t by omega]
    · refine H _ (upd a8 s (nI k)) (zq_Dk h8 ⟨k, lk, uk, rfl⟩) (fun e => ?_) (fun j e => ?_) (fun j hj => pk_un hj)
      · rw [pk_us, hk e]
      · by_cases ej : j = s
        · rw [ej, eq] at e
          have := (nI_eq (by omega) (by omega)).mp e
          omega
        · rw [pk_un ej]; exact e
  · rintro n i x hi ⟨k, lk, uk, rfl, hk⟩ hw
    have hci : (nI i).toNatClampNeg = i := nI_clamp (by omega)
    obtain ⟨m, lm, um, em⟩ := h7 i hi
    obtain ⟨w, _, uw, ew⟩ := h6 (i * 8 + s)
    have hmw : a7 (nI i).toNatClampNeg + nI w = nI (m + w) := by rw [hci, em, nI_add]
    refine pk_le 8 i (fun z => absurd z (by omega)) (fun _ => ⟨pk_in (i * 8 + s) 64 (by omega) (zq_i8 i s), nm_r (e' := nI w) (by rw [zq_i8, nI_clamp (by omega)]; exact ew) ?_⟩)
    refine pk_le w 0 (fun _ => nm_r (nI_1 i) (hw _ ⟨k, lk, uk, rfl, hk⟩)) (fun zw => ⟨pk_in i 8 hi, ?_⟩)
    refine pk_le k (m + w) (fun _ => nm_r (nI_1 i) (hw _ ⟨k, lk, uk, rfl, hk⟩)) (fun zk => ⟨pk_in i 8 hi, nm_r hmw (nm_r (nI_1 i) (hw _ ⟨m + w, by omega, by omega, rfl, fun e => ?_⟩))⟩) rfl hmw
    have := hk e
    omega
theorem zq_walkOn {post : St2 → Prop} {ln tr b : Int32} {a1 a2 a3 a4 a5 a6 a7 a8 a9 : Nat → Int32} {t : Nat} (ht : t ≤ 1000) (h6 : ∀ j, zq_N 0 30 (a6 j)) (h7 : zq_D t 8 a7) (h8 : zq_D t 8 a8)
    (H : ∀ b' a8', zq_D t 8 a8' → (∀ j, j < 8 → a7 j = nI t → a8' j = nI t) → (∀ j, a8 j = nI t → a8' j = nI t) → post (ln, tr, b', a1, a2, a3, a4, a5, a6, a7, a8', a9)) :
    wpX_walkOn post (ln, tr, b, a1, a2, a3, a4, a5, a6, a7, a8, a9) := by
  have L : ∃ n, wX_walkOn_7 post ln tr n (nI 0) 0 a1 a2 a3 a4 a5 a6 a7 a8 a9 := by
    refine pk_loop (fun n i (s : Int32 × (Nat → Int32)) => wX_walkOn_7 post ln tr n (nI i) s.1 a1 a2 a3 a4 a5 a6 a7 s.2 a9) (fun i s => zq_D t 8 s.2 ∧ (∀ j, j < i → a7 j = nI t → s.2 j = nI t) ∧ (∀ j, a8 j = nI t → s.2 j = nI t)) 8 0 (0, a8) (by omega) ⟨h8, fun j hj => absurd hj (by omega), fun j e => e⟩ ?_ ?_
    · rintro n ⟨b', a8'⟩ ⟨g1, g2, g3⟩
      exact pk_le 8 8 (fun _ => H b' a8' g1 g2 g3) (fun z => absurd z (by omega))
    · rintro n i ⟨b', a8'⟩ hi ⟨g1, g2, g3⟩ hw
      have hci : (nI i).toNatClampNeg = i := nI_clamp (by omega)
      refine pk_le 8 i (fun z => absurd z (by omega)) (fun _ => ⟨pk_in i 8 hi, nm_r (e' := a7 i) (by rw [hci]) (zq_w22 (a8 := a8') ht hi h6 h7 g1 (fun b'' a8'' k1 k2 k3 k4 => hw (b'', a8'') ⟨k1, fun j hj e => ?_, fun j e => k3 j (g3 j e)⟩))⟩)
      by_cases ej : j = i
      · rw [ej] at e ⊢
        exact k2 e
      · exact k3 j (g2 j (by omega) e)
  exact L
theorem zq_begin {post : St2 → Prop} {ln tr b : Int32} {a1 a2 a3 a4 a5 a6 a7 a8 a9 : Nat → Int32} {a t : Nat} (ha : a < 8) (ht : t ≤ 1000) (h6 : ∀ j, zq_N 0 30 (a6 j))
    (H : ∀ b' a7' a8', zq_D t 8 a8' → a8' a = nI t → post (ln, tr, b', a1, a2, a3, a4, a5, a6, a7', a8', a9)) :
    wpX_begin post (ln, tr, b, a1, a2, a3, a4, a5, a6, a7, a8, a9) (nI a) (nI t) := by
  have L : ∃ n, wX_begin_2 post (nI a) (nI t) ln tr b n (nI 0) a1 a2 a3 a4 a5 a6 a7 a8 a9 := by
    refine pk_loop (fun n i (s : (Nat → Int32) × (Nat → Int32)) => wX_begin_2 post (nI a) (nI t) ln tr b n (nI i) a1 a2 a3 a4 a5 a6 s.1 s.2 a9) (fun i s => zq_D t i s.1 ∧ zq_D t i s.2) 8 0 (a7, a8) (by omega) ⟨fun j hj => absurd hj (by omega), fun j hj => absurd hj (by omega)⟩ ?_ ?_
    · rintro n ⟨b7, b8⟩ ⟨g1, g2⟩
      refine pk_le 8 8 (fun _ => ⟨pk_in a 8 ha, nm_r (e' := upd b7 a (nI t)) (by rw [nI_clamp (by omega)]) ?_⟩) (fun z => absurd z (by omega))
      exact zq_walkOn ht h6 (zq_Dk g1 ⟨t, by omega, by omega, rfl⟩) g2 (fun b' a8' k1 k2 k3 => H b' _ a8' k1 (k2 a ha pk_us))
    · rintro n i ⟨b7, b8⟩ hi ⟨g1, g2⟩ hw
      have hci : (nI i).toNatClampNeg = i := nI_clamp (by omega)
      exact pk_le 8 i (fun z => absurd z (by omega)) (fun _ => ⟨pk_in i 8 hi, nm_r (e' := upd b7 i (nI 1000000)) (by rw [hci]; rfl) ⟨pk_in i 8 hi, nm_r (e' := upd b8 i (nI 1000000)) (by rw [hci]; rfl) (nm_r (nI_1 i) (hw (_, _) ⟨zq_Ds g1 ⟨1000000, by omega, by omega, rfl⟩, zq_Ds g2 ⟨1000000, by omega, by omega, rfl⟩⟩))⟩⟩)
  exact L
/-! the earliest trip of line 0 that can be caught -/
theorem zq_catch {post : Int32 → Prop} {ln b : Int32} {a1 a2 a3 a4 a5 a6 a7 a8 a9 : Nat → Int32} {c i v o : Nat} (hc : c ≤ 1) (hi : i < 2) (h5 : ∀ j, zq_N 0 500 (a5 j)) (ho : a3 i = nI o) (hob : o ≤ 30) (hv : v ≤ 1000000)
    (H : ∀ r, (r = 1000000 ∨ r ≤ 500 ∧ v ≤ r + o) → post (nI r)) :
    wpX_catchTrip post (ln, nI c, b, a1, a2, a3, a4, a5, a6, a7, a8, a9) (nI 0) (nI i) (nI v) := by
  have L : ∃ n, wX_catchTrip_7 post (nI 0) (nI i) (nI v) ln (nI c) b a1 a2 a3 a4 a5 a6 a7 a8 a9 n 1000000 (nI 0) := by
    refine pk_loop (fun n j (x : Int32) => wX_catchTrip_7 post (nI 0) (nI i) (nI v) ln (nI c) b a1 a2 a3 a4 a5 a6 a7 a8 a9 n x (nI j)) (fun _ x => ∃ r : Nat, x = nI r ∧ (r = 1000000 ∨ r ≤ 500 ∧ v ≤ r + o)) c 0 1000000 (by omega) ⟨1000000, rfl, Or.inl rfl⟩ ?_ ?_
    · rintro n x ⟨r, rfl, hr⟩
      exact pk_le c c (fun _ => H r hr) (fun z => absurd z (by omega))
    · rintro n j x hj ⟨r, rfl, hr⟩ hw
      have hcj : (nI j).toNatClampNeg = j := nI_clamp (by omega)
      obtain ⟨m, _, um, em⟩ := h5 j
      have hm : a5 (nI j).toNatClampNeg = nI m := by rw [hcj]; exact em
      have hmo : a5 (nI j).toNatClampNeg + a3 (nI 0 * 6 + nI i).toNatClampNeg = nI (m + o) := by rw [hm, zq_ix, nI_clamp (by omega), ho, nI_add]
      refine pk_le c j (fun z => absurd z (by omega)) (fun _ => ⟨pk_in j 12 (by omega), br_c (fun _ => ⟨pk_in j 12 (by omega), pk_in i 30 (by omega) (zq_ix i), ?_⟩) (fun _ => nm_r (nI_1 j) (hw _ ⟨r, rfl, hr⟩))⟩)
      refine pk_lt (m + o) v (fun _ => nm_r (nI_1 j) (hw _ ⟨r, rfl, hr⟩)) (fun z => ⟨pk_in j 12 (by omega), ?_⟩) hmo rfl
      exact br_c (fun _ => nm_r (nI_1 j) (hw _ ⟨r, rfl, hr⟩)) (fun _ => ⟨pk_in j 12 (by omega), nm_r hm (nm_r (nI_1 j) (hw _ ⟨m, rfl, Or.inr ⟨um, z⟩⟩))⟩)
  exact L
/-! one stop of a line: behind the riding -/
theorem zq_r70 {post : St2 → Prop} {J : Int32 → Int32 → (Nat → Int32) → (Nat → Int32) → (Nat → Int32) → (Nat → Int32) → (Nat → Int32) → (Nat → Int32) → (Nat → Int32) → (Nat → Int32) → (Nat → Int32) → Prop} {ln b x5 : Int32} {a1 a2 a3 a4 a5 a6 a7 a8 a9 : Nat → Int32} {c i t r p o : Nat} (hc : c ≤ 1) (hi : i < 2) (hp : p < 8) (h5 : ∀ j, zq_N 0 500 (a5 j)) (h9 : zq_D t 8 a9) (ho : a3 i = nI o) (hob : o ≤ 30)
    (H : ∀ r', (r' = r ∨ r' = 1000000 ∨ r' ≤ 500 ∧ t ≤ r' + o) → J (nI r') (nI (i + 1)) a1 a2 a3 a4 a5 a6 a7 a8 a9) :
    wX_rideLine_70 post J (nI 0) (nI r) (nI i) (nI p) x5 ln (nI c) b a1 a2 a3 a4 a5 a6 a7 a8 a9 := by
  obtain ⟨v, lv, uv, ev⟩ := h9 p hp
  have K : wX_rideLine_113 post J (nI 0) (nI r) (nI i) (nI p) ln (nI c) b a1 a2 a3 a4 a5 a6 a7 a8 a9 := by
    unfold wX_rideLine_113
    refine ⟨pk_in p 8 hp, ?_⟩
    rw [nI_clamp (show p < 2 ^ 31 by omega), ev]
    exact zq_catch hc hi h5 ho hob uv (fun r' hr' => br_c (fun _ => nm_r (nI_1 i) (H r (Or.inl rfl))) (fun _ => nm_r (nI_1 i) (H r' (Or.inr (hr'.elim (fun e => Or.inl e) (fun e => Or.inr ⟨e.1, by omega⟩))))))
  exact br_c (fun _ => br_f (by decide) (br_c (fun _ => K) (fun _ => ⟨pk_in p 8 hp, br_c (fun _ => nm_r (nI_1 i) (H r (Or.inl rfl))) (fun _ => K)⟩))) (fun _ => br_t rfl (nm_r (nI_1 i) (H r (Or.inl rfl))))
theorem zq_ride {post : St2 → Prop} {ln b : Int32} {a1 a2 a3 a4 a5 a6 a7 a8 a9 : Nat → Int32} {c t : Nat} (hc : c ≤ 1) (ht : t ≤ 1000) (hT : zq_T a1 a2 a3 a5 a6) (h7 : zq_D t 8 a7) (h9 : zq_D t 8 a9)
    (H : ∀ a7', zq_D t 8 a7' → post (ln, nI c, b, a1, a2, a3, a4, a5, a6, a7', a8, a9)) :
    wpX_rideLine post (ln, nI c, b, a1, a2, a3, a4, a5, a6, a7, a8, a9) (nI 0) := by
  obtain ⟨⟨k, hk, e1⟩, h2, h3, h30, h5, h6⟩ := hT
  obtain ⟨o0, _, uo0, eo0⟩ := h3 0
  obtain ⟨o1, _, uo1, eo1⟩ := h3 1
  have z0 : o0 = 0 := (nI_eq (by omega) (by omega)).mp (eo0.symm.trans h30)
  have hk0 : a1 (nI 0).toNatClampNeg = nI k := by rw [nI_clamp (by omega)]; exact e1
  have L : ∃ n, wX_rideLine_5 post (nI 0) ln (nI c) b n 1000000 (nI 0) a1 a2 a3 a4 a5 a6 a7 a8 a9 := by
    refine pk_loop (fun n i (s : Int32 × (Nat → Int32)) => wX_rideLine_5 post (nI 0) ln (nI c) b n s.1 (nI i) a1 a2 a3 a4 a5 a6 s.2 a8 a9) (fun i s => zq_D t 8 s.2 ∧ ∃ r : Nat, s.1 = nI r ∧ (r = 1000000 ∨ r ≤ 500 ∧ (i = 0 → t ≤ r + o0) ∧ (i = 1 → t ≤ r + o1))) k 0 (1000000, a7) (by omega) ⟨h7, 1000000, rfl, Or.inl rfl⟩ ?_ ?_
    · rintro n ⟨x, b7⟩ ⟨g1, r, g2, hr⟩
      exact ⟨pk_in 0 5 (by omega), pk_le k k (fun _ => H b7 g1) (fun z => absurd z (by omega)) hk0 rfl⟩
    · rintro n i ⟨x, b7⟩ hi ⟨g1, r, g2, hr⟩ hw
      dsimp only at g1 g2
      subst g2
      have hix : (nI 0 * 6 + nI i).toNatClampNeg = i := by rw [zq_ix, nI_clamp (by omega)]
      have hO : ∃ o : Nat, a3 i = nI o ∧ o ≤ 30 ∧ (i = 0 → o = o0) ∧ (i = 1 → o = o1) := by
        rcases (show i = 0 ∨ i = 1 by omega) with rfl | rfl
        · exact ⟨o0, eo0, uo0, fun _ => rfl, fun z => absurd z (by omega)⟩
        · exact ⟨o1, eo1, uo1, fun z => absurd z (by omega), fun _ => rfl⟩
      obtain ⟨o, eo, uo, oz, oo⟩ := hO
      have hro : r = 1000000 ∨ r ≤ 500 ∧ t ≤ r + o := by omega
      obtain ⟨p, _, up, ep⟩ := h2 i
      have Z : ∀ c7, zq_D t 8 c7 → wX_rideLine_70 post (wX_rideLine_5 post (nI 0) ln (nI c) b n) (nI 0) (nI r) (nI i) (nI p) (nI (r + o)) ln (nI c) b a1 a2 a3 a4 a5 a6 c7 a8 a9 := by
        intro c7 hc7
        refine zq_r70 hc (by omega) (by omega) h5 h9 eo uo (fun r' hr' => hw (nI r', c7) ⟨hc7, r', rfl, ?_⟩)
        omega
      refine ⟨pk_in 0 5 (by omega), pk_le k i (fun z => absurd z (by omega)) (fun _ => ⟨pk_in i 30 (by omega) (zq_ix i), nm_r (e' := nI p) (by rw [hix]; exact ep) ⟨pk_in i 30 (by omega) (zq_ix i), nm_r (e' := nI (r + o)) (by rw [hix, eo, nI_add]) ?_⟩⟩) hk0 rfl⟩
      refine pk_le 1000000 r (fun _ => Z b7 g1) (fun zr => ⟨pk_in p 8 (by omega), br_c (fun _ => Z b7 g1) (fun _ => ⟨pk_in p 8 (by omega), nm_e (Z _ (zq_Dk g1 ⟨r + o, by omega, by omega, rfl⟩))⟩)⟩)
  exact L
end
section
theorem zq_n36 {post : St2 → Prop} {b : Int32} {a1 a2 a3 a4 a5 a6 a7 a8 a9 : Nat → Int32} {l c t : Nat} (hl : l ≤ 1) (hc : c ≤ 1) (ht : t ≤ 1000) (hT : zq_T a1 a2 a3 a5 a6) (h7 : zq_D t 8 a7) (h8 : zq_D t 8 a8) (h9 : zq_D t 8 a9)
    (H : ∀ b' a7' a8', zq_D t 8 a8' → (∀ j, a8 j = nI t → a8' j = nI t) → post (nI l, nI c, b', a1, a2, a3, a4, a5, a6, a7', a8', a9)) :
    ∃ n, wX_nextRound_36 post n 0 (nI l) (nI c) b a1 a2 a3 a4 a5 a6 a7 a8 a9 := by
  have L : ∃ n, wX_nextRound_36 post n (nI 0) (nI l) (nI c) b a1 a2 a3 a4 a5 a6 a7 a8 a9 := by
    refine pk_loop (fun n i (s : Nat → Int32) => wX_nextRound_36 post n (nI i) (nI l) (nI c) b a1 a2 a3 a4 a5 a6 s a8 a9) (fun _ s => zq_D t 8 s) l 0 a7 (by omega) h7 ?_ ?_
    · intro n s g
      exact pk_le l l (fun _ => zq_walkOn ht hT.2.2.2.2.2 g h8 (fun b' a8' k1 _ k3 => H b' s a8' k1 k3)) (fun z => absurd z (by omega))
    · intro n i s hi g hw
      have e : i = 0 := by omega
      subst e
      exact pk_le l 0 (fun z => absurd z (by omega)) (fun _ => zq_ride hc ht hT g h9 (fun a7' k => nm_r (nI_1 0) (hw a7' k)))
  exact L
theorem zq_next {post : St2 → Prop} {b : Int32} {a1 a2 a3 a4 a5 a6 a7 a8 a9 : Nat → Int32} {l c t : Nat} (hl : l ≤ 1) (hc : c ≤ 1) (ht : t ≤ 1000) (hT : zq_T a1 a2 a3 a5 a6) (h8 : zq_D t 8 a8)
    (H : ∀ b' a7' a8' a9', zq_D t 8 a8' → (∀ j, a8 j = nI t → a8' j = nI t) → post (nI l, nI c, b', a1, a2, a3, a4, a5, a6, a7', a8', a9')) :
    wpX_nextRound post (nI l, nI c, b, a1, a2, a3, a4, a5, a6, a7, a8, a9) := by
  have L : ∃ n, wX_nextRound_2 post (nI l) (nI c) b n (nI 0) a1 a2 a3 a4 a5 a6 a7 a8 a9 := by
    refine pk_loop (fun n i (s : (Nat → Int32) × (Nat → Int32)) => wX_nextRound_2 post (nI l) (nI c) b n (nI i) a1 a2 a3 a4 a5 a6 s.1 a8 s.2) (fun i s => zq_D t i s.1 ∧ zq_D t i s.2) 8 0 (a7, a9) (by omega) ⟨fun j hj => absurd hj (by omega), fun j hj => absurd hj (by omega)⟩ ?_ ?_
    · rintro n ⟨b7, b9⟩ ⟨g1, g2⟩
      exact pk_le 8 8 (fun _ => zq_n36 hl hc ht hT g1 h8 g2 (fun b' a7' a8' k1 k2 => H b' a7' a8' b9 k1 k2)) (fun z => absurd z (by omega))
    · rintro n i ⟨b7, b9⟩ hi ⟨g1, g2⟩ hw
      have hci : (nI i).toNatClampNeg = i := nI_clamp (by omega)
      exact pk_le 8 i (fun z => absurd z (by omega)) (fun _ => ⟨pk_in i 8 hi, pk_in i 8 hi, nm_r (e' := upd b9 i (a8 i)) (by rw [hci]) ⟨pk_in i 8 hi, nm_r (e' := upd b7 i (nI 1000000)) (by rw [hci]; rfl) (nm_r (nI_1 i) (hw (_, _) ⟨zq_Ds g1 ⟨1000000, by omega, by omega, rfl⟩, zq_Ds g2 (h8 i hi)⟩))⟩⟩)
  exact L
theorem zq_plan {post : St2 → Prop} {b : Int32} {a1 a2 a3 a4 a5 a6 a7 a8 a9 : Nat → Int32} {l c a t : Nat} (hl : l ≤ 1) (hc : c ≤ 1) (ha : a < 8) (ht : t ≤ 1000) (hT : zq_T a1 a2 a3 a5 a6)
    (H : ∀ b' a7' a8' a9', a8' a = nI t → post (nI l, nI c, b', a1, a2, a3, a4, a5, a6, a7', a8', a9')) :
    wpX_plan post (nI l, nI c, b, a1, a2, a3, a4, a5, a6, a7, a8, a9) (nI a) (nI t) 12 := by
  refine zq_begin ha ht hT.2.2.2.2.2 (fun b0 b7 b8 g1 g2 => ?_)
  have L : ∃ n, wX_plan_9 post 12 n (nI 0) (nI l) (nI c) b0 a1 a2 a3 a4 a5 a6 b7 b8 a9 := by
    refine pk_loop (fun n i (s : Int32 × (Nat → Int32) × (Nat → Int32) × (Nat → Int32)) => wX_plan_9 post 12 n (nI i) (nI l) (nI c) s.1 a1 a2 a3 a4 a5 a6 s.2.1 s.2.2.1 s.2.2.2) (fun _ s => zq_D t 8 s.2.2.1 ∧ s.2.2.1 a = nI t) 12 0 (b0, b7, b8, a9) (by omega) ⟨g1, g2⟩ ?_ ?_
    · rintro n ⟨b', c7, c8, c9⟩ ⟨k1, k2⟩
      exact pk_le 12 12 (fun _ => H b' c7 c8 c9 k2) (fun z => absurd z (by omega))
    · rintro n i ⟨b', c7, c8, c9⟩ hi ⟨k1, k2⟩ hw
      exact pk_le 12 i (fun z => absurd z (by omega)) (fun _ => br_c (fun _ => H b' c7 c8 c9 k2) (fun _ => zq_next hl hc ht hT k1 (fun b'' d7 d8 d9 m1 m2 => nm_r (nI_1 i) (hw (b'', d7, d8, d9) ⟨m1, m2 a k2⟩))))
  exact L
/-! refusal -/
theorem zq_refG {post : Int32 → Prop} {u : St2} {a t : Nat} (ha : a < 8) (ht : t ≤ 1000) (H : post 0) : wpX_refusal post u (nI a) (nI a) (nI t) := by
  obtain ⟨ln, tr, b, a1, a2, a3, a4, a5, a6, a7, a8, a9⟩ := u
  have B : ∀ q : Int32 → Prop, q 0 → wpX_badTime q () (nI t) := fun q h => br_f (nI_pos (by omega)) (pk_le t 1000 (fun _ => h) (fun z => absurd z (by omega)))
  unfold wpX_refusal
  exact zq_bsG ha (br_t rfl (zq_bsG ha (br_t rfl (B _ (br_t rfl H)))))
theorem zq_refT {post : Int32 → Prop} {u : St2} {p : Int32} {a : Nat} (ha : a < 8) (hp : p < 0 ∨ ¬ p ≤ 1000) (H : post (-3)) : wpX_refusal post u (nI a) (nI a) p := by
  obtain ⟨ln, tr, b, a1, a2, a3, a4, a5, a6, a7, a8, a9⟩ := u
  have B : ∀ q : Int32 → Prop, q 1 → wpX_badTime q () p := fun q h => br_c (fun _ => h) (fun h0 => br_c (fun h1 => hp.elim (fun z => absurd z h0) (fun z => absurd h1 z)) (fun _ => h))
  unfold wpX_refusal
  exact zq_bsG ha (br_t rfl (zq_bsG ha (br_t rfl (B _ (br_f (by decide) H)))))
theorem zq_refB {post : Int32 → Prop} {u : St2} {p q t : Int32} (hp : zq_bad p) (H : post (-1)) : wpX_refusal post u p q t := by
  obtain ⟨ln, tr, b, a1, a2, a3, a4, a5, a6, a7, a8, a9⟩ := u
  unfold wpX_refusal
  exact zq_bsB hp (br_f (by decide) H)
/-! earliest(s, s, t) -/
theorem zq_earG {post : Int32 → St2 → Prop} {b : Int32} {a1 a2 a3 a4 a5 a6 a7 a8 a9 : Nat → Int32} {l c a t : Nat} (hl : l ≤ 1) (hc : c ≤ 1) (ha : a < 8) (ht : t ≤ 1000) (hT : zq_T a1 a2 a3 a5 a6)
    (H : ∀ b' a7' a8' a9', post (nI t) (nI l, nI c, b', a1, a2, a3, a4, a5, a6, a7', a8', a9')) :
    wpX_earliest post (nI l, nI c, b, a1, a2, a3, a4, a5, a6, a7, a8, a9) (nI a) (nI a) (nI t) := by
  unfold wpX_earliest
  refine zq_refG ha ht (br_t rfl ?_)
  refine zq_plan hl hc ha ht hT (fun b' a7' a8' a9' e => ?_)
  have e' : a8' (nI a).toNatClampNeg = nI t := by rw [nI_clamp (by omega)]; exact e
  refine ⟨pk_in a 8 ha, pk_lt t 1000000 (fun _ => ⟨pk_in a 8 ha, ?_⟩) (fun z => absurd z (by omega)) e' rfl⟩
  rw [e']
  exact H b' a7' a8' a9'
theorem zq_earT {post : Int32 → St2 → Prop} {u : St2} {p : Int32} {a : Nat} (ha : a < 8) (hp : p < 0 ∨ ¬ p ≤ 1000) (H : post (-3) u) :
    wpX_earliest post u (nI a) (nI a) p := by
  obtain ⟨ln, tr, b, a1, a2, a3, a4, a5, a6, a7, a8, a9⟩ := u
  unfold wpX_earliest
  exact zq_refT ha hp (br_f (by decide) H)
theorem zq_earB {post : Int32 → St2 → Prop} {u : St2} {p t : Int32} (hp : zq_bad p) (H : post (-1) u) :
    wpX_earliest post u p p t := by
  obtain ⟨ln, tr, b, a1, a2, a3, a4, a5, a6, a7, a8, a9⟩ := u
  unfold wpX_earliest
  exact zq_refB hp (br_f (by decide) H)
end
section
/-! line -/
theorem zq_lineG {post : Int32 → St2 → Prop} {tr b : Int32} {a1 a2 a3 a4 a5 a6 a7 a8 a9 : Nat → Int32} {s : Nat} (hs : s < 8) (H : post 0 (nI 1, tr, b, upd a1 0 (nI 1), upd a2 0 (nI s), upd a3 0 (nI 0), a4, a5, a6, a7, a8, a9)) : wpX_line post (0, tr, b, a1, a2, a3, a4, a5, a6, a7, a8, a9) (nI s) := by
  have e6 : (0 : Int32) * 6 = nI 0 := by decide
  have c6 : ((0 : Int32) * 6).toNatClampNeg = 0 := by rw [e6]; exact nI_clamp (by omega)
  have c0 : (0 : Int32).toNatClampNeg = 0 := nI_clamp (n := 0) (by omega)
  unfold wpX_line
  refine zq_bsG hs (br_t rfl (br_t (by decide) ⟨pk_in 0 5 (by omega), nm_r (e' := upd a1 0 (nI 1)) (by rw [c0]; rfl) ⟨pk_in 0 30 (by omega) e6, nm_r (e' := upd a2 0 (nI s)) (by rw [c6]) ⟨pk_in 0 30 (by omega) e6, nm_r (e' := upd a3 0 (nI 0)) (by rw [c6]; rfl) (nm_r (e' := nI 1) (by decide) ?_)⟩⟩⟩))
  rw [show nI 1 - 1 = 0 by decide]
  exact H
theorem zq_lineB {post : Int32 → St2 → Prop} {ln tr b p : Int32} {a1 a2 a3 a4 a5 a6 a7 a8 a9 : Nat → Int32} (hp : zq_bad p) (H : post (-1) (ln, tr, b, a1, a2, a3, a4, a5, a6, a7, a8, a9)) : wpX_line post (ln, tr, b, a1, a2, a3, a4, a5, a6, a7, a8, a9) p := by
  unfold wpX_line
  exact zq_bsB hp (br_f (by decide) H)
/-! extend -/
theorem zq_extL {post : Int32 → St2 → Prop} {ln tr b p q r : Int32} {a1 a2 a3 a4 a5 a6 a7 a8 a9 : Nat → Int32} (h : ln = 0 ∨ ln = 1 ∧ p ≠ 0) (H : post (-2) (ln, tr, b, a1, a2, a3, a4, a5, a6, a7, a8, a9)) : wpX_extend post (ln, tr, b, a1, a2, a3, a4, a5, a6, a7, a8, a9) p q r := by
  unfold wpX_extend
  exact zq_blB h (br_f (by decide) H)
theorem zq_extS {post : Int32 → St2 → Prop} {tr b q r : Int32} {a1 a2 a3 a4 a5 a6 a7 a8 a9 : Nat → Int32} (h : zq_bad q) (H : post (-1) (nI 1, tr, b, a1, a2, a3, a4, a5, a6, a7, a8, a9)) : wpX_extend post (nI 1, tr, b, a1, a2, a3, a4, a5, a6, a7, a8, a9) 0 q r := by
  unfold wpX_extend
  exact zq_blG (br_t rfl (zq_bsB h (br_f (by decide) H)))
theorem zq_ext1 {post : Int32 → St2 → Prop} {b m : Int32} {a1 a2 a3 a4 a5 a6 a7 a8 a9 : Nat → Int32} {u : Nat} (e1 : a1 0 = nI 1) (hu : u < 8) (E : a2 0 = nI u → post (-1) (nI 1, nI 0, b, a1, a2, a3, a4, a5, a6, a7, a8, a9)) (N : ¬ a2 0 = nI u → wX_extend_31 post 0 (nI u) m (nI 1) (nI 1) (nI 0) b a1 a2 a3 a4 a5 a6 a7 a8 a9 1 (nI 1)) : wpX_extend post (nI 1, nI 0, b, a1, a2, a3, a4, a5, a6, a7, a8, a9) 0 (nI u) m := by
  have c0 : (0 : Int32).toNatClampNeg = 0 := nI_clamp (n := 0) (by omega)
  have e6 : (0 : Int32) * 6 + 0 = nI 0 := by decide
  have c6 : ((0 : Int32) * 6 + 0).toNatClampNeg = 0 := by rw [e6]; exact nI_clamp (by omega)
  unfold wpX_extend
  refine zq_blG (br_t rfl (zq_bsG hu (br_t rfl ⟨pk_in 0 5 (by omega), nm_r (e' := nI 1) (by rw [c0]; exact e1) ⟨2, ?_⟩⟩)))
  refine pk_le 1 0 (fun z => absurd z (by omega)) (fun _ => ⟨pk_in 0 30 (by omega) e6, ?_⟩)
  rw [c6]
  exact br_c E (fun h => nm_r (nI_1 0) (N h))
theorem zq_ext2 {post : Int32 → St2 → Prop} {b m : Int32} {a1 a2 a3 a4 a5 a6 a7 a8 a9 : Nat → Int32} {u : Nat} (h : m < 1 ∨ ¬ m ≤ 30) (H : post (-3) (nI 1, nI 0, b, a1, a2, a3, a4, a5, a6, a7, a8, a9)) : wX_extend_31 post 0 (nI u) m (nI 1) (nI 1) (nI 0) b a1 a2 a3 a4 a5 a6 a7 a8 a9 1 (nI 1) :=
  pk_le 1 1 (fun _ => br_c (fun _ => H) (fun h1 => br_c (fun h2 => h.elim (fun z => absurd z h1) (fun z => absurd h2 z)) (fun _ => H))) (fun z => absurd z (by omega))
theorem zq_ext3 {post : Int32 → St2 → Prop} {b m : Int32} {a1 a2 a3 a4 a5 a6 a7 a8 a9 : Nat → Int32} {u : Nat} (h1 : ¬ m < 1) (h2 : m ≤ 30) (H : post 2 (nI 1, nI 0, b, upd a1 0 (nI 2), upd a2 1 (nI u), upd a3 1 (a3 0 + m), a4, a5, a6, a7, a8, a9)) : wX_extend_31 post 0 (nI u) m (nI 1) (nI 1) (nI 0) b a1 a2 a3 a4 a5 a6 a7 a8 a9 1 (nI 1) := by
  have c0 : (0 : Int32).toNatClampNeg = 0 := nI_clamp (n := 0) (by omega)
  have e6 : (0 : Int32) * 6 + nI 1 = nI 1 := by decide
  have c6 : ((0 : Int32) * 6 + nI 1).toNatClampNeg = 1 := by rw [e6]; exact nI_clamp (by omega)
  have e5 : (0 : Int32) * 6 + nI 1 - 1 = nI 0 := by decide
  have c5 : ((0 : Int32) * 6 + nI 1 - 1).toNatClampNeg = 0 := by rw [e5]; exact nI_clamp (by omega)
  refine pk_le 1 1 (fun _ => br_f h1 (br_t h2 ⟨1, pk_le 0 0 (fun _ => pk_le 6 1 (fun z => absurd z (by omega)) (fun _ => br_t rfl ⟨pk_in 1 30 (by omega) e6, nm_r (e' := upd a2 1 (nI u)) (by rw [c6]) ⟨pk_in 0 30 (by omega) e5, pk_in 1 30 (by omega) e6, nm_r (e' := upd a3 1 (a3 0 + m)) (by rw [c6, c5]) ⟨pk_in 0 5 (by omega), nm_r (e' := upd a1 0 (nI 2)) (by rw [c0, nI_1]) ?_⟩⟩⟩)) (fun z => absurd z (by omega))⟩)) (fun z => absurd z (by omega))
  rw [show nI 1 + 1 = 2 by decide]
  exact H
/-! trip -/
theorem zq_tripL {post : Int32 → St2 → Prop} {ln tr b p q : Int32} {a1 a2 a3 a4 a5 a6 a7 a8 a9 : Nat → Int32} (h : ln = 0 ∨ ln = 1 ∧ p ≠ 0) (H : post (-2) (ln, tr, b, a1, a2, a3, a4, a5, a6, a7, a8, a9)) : wpX_trip post (ln, tr, b, a1, a2, a3, a4, a5, a6, a7, a8, a9) p q := by
  unfold wpX_trip
  exact zq_blB h (br_f (by decide) H)
theorem zq_tripT {post : Int32 → St2 → Prop} {tr b q : Int32} {a1 a2 a3 a4 a5 a6 a7 a8 a9 : Nat → Int32} (h : q < 0 ∨ ¬ q ≤ 500) (H : post (-3) (nI 1, tr, b, a1, a2, a3, a4, a5, a6, a7, a8, a9)) : wpX_trip post (nI 1, tr, b, a1, a2, a3, a4, a5, a6, a7, a8, a9) 0 q := by
  unfold wpX_trip
  exact zq_blG (br_t rfl (br_c (fun _ => H) (fun h0 => br_c (fun h1 => h.elim (fun z => absurd z h0) (fun z => absurd h1 z)) (fun _ => H))))
theorem zq_tripG {post : Int32 → St2 → Prop} {b q : Int32} {a1 a2 a3 a4 a5 a6 a7 a8 a9 : Nat → Int32} (h0 : ¬ q < 0) (h1 : q ≤ 500) (H : post 0 (nI 1, nI 1, b, a1, a2, a3, upd a4 0 0, upd a5 0 q, a6, a7, a8, a9)) : wpX_trip post (nI 1, nI 0, b, a1, a2, a3, a4, a5, a6, a7, a8, a9) 0 q := by
  have c0 : (nI 0).toNatClampNeg = 0 := nI_clamp (by omega)
  unfold wpX_trip
  refine zq_blG (br_t rfl (br_f h0 (br_t h1 (br_t (by decide) ⟨pk_in 0 12 (by omega), nm_r (e' := upd a4 0 0) (by rw [c0]) ⟨pk_in 0 12 (by omega), nm_r (e' := upd a5 0 q) (by rw [c0]) (nm_r (e' := nI 1) (by decide) ?_)⟩⟩))))
  rw [show nI 1 - 1 = 0 by decide]
  exact H
/-! delay -/
theorem zq_delL {post : Int32 → St2 → Prop} {ln b q : Int32} {a1 a2 a3 a4 a5 a6 a7 a8 a9 : Nat → Int32} (H : post (-2) (ln, nI 0, b, a1, a2, a3, a4, a5, a6, a7, a8, a9)) : wpX_delay post (ln, nI 0, b, a1, a2, a3, a4, a5, a6, a7, a8, a9) 0 q :=
  br_f (by decide) (br_f (by decide) H)
theorem zq_delT {post : Int32 → St2 → Prop} {ln b q : Int32} {a1 a2 a3 a4 a5 a6 a7 a8 a9 : Nat → Int32} (h : q < 0 ∨ ¬ q ≤ 500) (H : post (-3) (ln, nI 1, b, a1, a2, a3, a4, a5, a6, a7, a8, a9)) : wpX_delay post (ln, nI 1, b, a1, a2, a3, a4, a5, a6, a7, a8, a9) 0 q :=
  br_f (by decide) (br_t (by decide) (br_c (fun _ => H) (fun h0 => br_c (fun h1 => h.elim (fun z => absurd z h0) (fun z => absurd h1 z)) (fun _ => H))))
theorem zq_delG {post : Int32 → St2 → Prop} {ln b q : Int32} {a1 a2 a3 a4 a5 a6 a7 a8 a9 : Nat → Int32} (h0 : ¬ q < 0) (h1 : q ≤ 500) (H : post (a5 0) (ln, nI 1, b, a1, a2, a3, a4, upd a5 0 q, a6, a7, a8, a9)) : wpX_delay post (ln, nI 1, b, a1, a2, a3, a4, a5, a6, a7, a8, a9) 0 q := by
  have c0 : (0 : Int32).toNatClampNeg = 0 := nI_clamp (n := 0) (by omega)
  exact br_f (by decide) (br_t (by decide) (br_f h0 (br_t h1 ⟨pk_in 0 12 (by omega), nm_r (e' := a5 0) (by rw [c0]) ⟨pk_in 0 12 (by omega), nm_r (e' := upd a5 0 q) (by rw [c0]) H⟩⟩)))
/-! footpath -/
theorem zq_fpA {post : Int32 → St2 → Prop} {ln tr b p q m : Int32} {a1 a2 a3 a4 a5 a6 a7 a8 a9 : Nat → Int32} (h : zq_bad p) (H : post (-1) (ln, tr, b, a1, a2, a3, a4, a5, a6, a7, a8, a9)) : wpX_footpath post (ln, tr, b, a1, a2, a3, a4, a5, a6, a7, a8, a9) p q m := by
  unfold wpX_footpath
  exact zq_bsB h (br_f (by decide) H)
theorem zq_fpB {post : Int32 → St2 → Prop} {ln tr b q m : Int32} {a1 a2 a3 a4 a5 a6 a7 a8 a9 : Nat → Int32} {s : Nat} (hs : s < 8) (h : zq_bad q) (H : post (-1) (ln, tr, b, a1, a2, a3, a4, a5, a6, a7, a8, a9)) : wpX_footpath post (ln, tr, b, a1, a2, a3, a4, a5, a6, a7, a8, a9) (nI s) q m := by
  unfold wpX_footpath
  exact zq_bsG hs (br_t rfl (zq_bsB h (br_f (by decide) H)))
theorem zq_fpE {post : Int32 → St2 → Prop} {ln tr b m : Int32} {a1 a2 a3 a4 a5 a6 a7 a8 a9 : Nat → Int32} {s : Nat} (hs : s < 8) (H : post (-1) (ln, tr, b, a1, a2, a3, a4, a5, a6, a7, a8, a9)) : wpX_footpath post (ln, tr, b, a1, a2, a3, a4, a5, a6, a7, a8, a9) (nI s) (nI s) m := by
  unfold wpX_footpath
  exact zq_bsG hs (br_t rfl (zq_bsG hs (br_t rfl (br_t rfl H))))
theorem zq_fpT {post : Int32 → St2 → Prop} {ln tr b m : Int32} {a1 a2 a3 a4 a5 a6 a7 a8 a9 : Nat → Int32} {s u : Nat} (hs : s < 8) (hu : u < 8) (e : ¬ nI s = nI u) (h : m < 0 ∨ ¬ m ≤ 30) (H : post (-3) (ln, tr, b, a1, a2, a3, a4, a5, a6, a7, a8, a9)) : wpX_footpath post (ln, tr, b, a1, a2, a3, a4, a5, a6, a7, a8, a9) (nI s) (nI u) m := by
  unfold wpX_footpath
  exact zq_bsG hs (br_t rfl (zq_bsG hu (br_t rfl (br_f e (br_c (fun _ => H) (fun h0 => br_c (fun h1 => h.elim (fun z => absurd z h0) (fun z => absurd h1 z)) (fun _ => H)))))))
theorem zq_fpG {post : Int32 → St2 → Prop} {ln tr b m : Int32} {a1 a2 a3 a4 a5 a6 a7 a8 a9 : Nat → Int32} {s u : Nat} (hs : s < 8) (hu : u < 8) (e : ¬ nI s = nI u) (h0 : ¬ m < 0) (h1 : m ≤ 30) (H : post (a6 (s * 8 + u)) (ln, tr, b, a1, a2, a3, a4, a5, upd (upd a6 (s * 8 + u) m) (u * 8 + s) m, a7, a8, a9)) : wpX_footpath post (ln, tr, b, a1, a2, a3, a4, a5, a6, a7, a8, a9) (nI s) (nI u) m := by
  have c1 : (nI s * 8 + nI u).toNatClampNeg = s * 8 + u := by rw [zq_i8, nI_clamp (by omega)]
  have c2 : (nI u * 8 + nI s).toNatClampNeg = u * 8 + s := by rw [zq_i8, nI_clamp (by omega)]
  unfold wpX_footpath
  exact zq_bsG hs (br_t rfl (zq_bsG hu (br_t rfl (br_f e (br_f h0 (br_t h1 ⟨pk_in (s * 8 + u) 64 (by omega) (zq_i8 s u), nm_r (e' := a6 (s * 8 + u)) (by rw [c1]) ⟨pk_in (s * 8 + u) 64 (by omega) (zq_i8 s u), nm_r (e' := upd a6 (s * 8 + u) m) (by rw [c1]) ⟨pk_in (u * 8 + s) 64 (by omega) (zq_i8 u s), nm_r (e' := upd (upd a6 (s * 8 + u) m) (u * 8 + s) m) (by rw [c2]) H⟩⟩⟩))))))
end
section
/-! the law, from its end -/
theorem zq_258 {post : Int32 → St0 → Prop} {mc ms kc ks : Nat} {x0 x5 z0 z1 b : Int32} {a1 a2 a3 a4 a5 a6 a7 a8 a9 : Nat → Int32} {l c : Nat} (hl : l ≤ 1) (hc : c ≤ 1) (hT : zq_T a1 a2 a3 a5 a6) (hp : post 1 ()) (hz : z1 = z0) :
    wL_lawOf_258 post mc ms x0 x5 z0 z1 kc ks (nI l) (nI c) b a1 a2 a3 a4 a5 a6 a7 a8 a9 := by
  refine br_t hz ?_
  have B : zq_bad x0 → wL_lawOf_258 post mc ms x0 x5 z0 z0 kc ks (nI l) (nI c) b a1 a2 a3 a4 a5 a6 a7 a8 a9 := fun h => br_t rfl (zq_earB h (zq_stB h (br_t rfl (br_t rfl hp))))
  rcases pk_ix x0 (n := 8) (by omega) with h | h | ⟨s, hs, rfl⟩
  · exact (B (Or.inl h)).1 rfl
  · exact (B (Or.inr h)).1 rfl
  · by_cases h0 : x5 < 0
    · exact zq_earT hs (Or.inl h0) (zq_stG hs (br_f (by decide) (br_t h0 (br_t rfl hp))))
    · by_cases h1 : x5 ≤ 1000
      · obtain ⟨t, ht, rfl⟩ := zq_of 1000 (by decide) h0 h1
        exact zq_earG hl hc hs ht hT (fun _ _ _ _ => zq_stG hs (br_f (by decide) (br_f h0 (br_t h1 (br_t rfl hp)))))
      · exact zq_earT hs (Or.inr h1) (zq_stG hs (br_f (by decide) (br_f h0 (br_f h1 (br_t rfl hp)))))
theorem zq_206 {post : Int32 → St0 → Prop} {mc ms kc ks : Nat} {x0 x2 x3 x5 z0 z1 b : Int32} {a1 a2 a3 a4 a5 a6 a7 a8 a9 : Nat → Int32} {l c : Nat} (hl : l ≤ 1) (hc : c ≤ 1) (hT : zq_T a1 a2 a3 a5 a6) (h60 : ∀ j, a6 j = nI 0) (hp : post 1 ()) (hz : z1 = z0) :
    wL_lawOf_206 post mc ms x0 x2 x3 x5 z0 z1 kc ks (nI l) (nI c) b a1 a2 a3 a4 a5 a6 a7 a8 a9 := by
  have B0 : zq_bad x0 → wL_lawOf_206 post mc ms x0 x2 x3 x5 z0 z1 kc ks (nI l) (nI c) b a1 a2 a3 a4 a5 a6 a7 a8 a9 := fun h => br_t hz (zq_fpA h (zq_stB h (br_t rfl (zq_258 hl hc hT hp rfl))))
  rcases pk_ix x0 (n := 8) (by omega) with h | h | ⟨s, hs, rfl⟩
  · exact B0 (Or.inl h)
  · exact B0 (Or.inr h)
  · have B2 : zq_bad x2 → wL_lawOf_206 post mc ms (nI s) x2 x3 x5 z0 z1 kc ks (nI l) (nI c) b a1 a2 a3 a4 a5 a6 a7 a8 a9 := fun h => br_t hz (zq_fpB hs h (zq_stG hs (br_f (by decide) (zq_stB h (br_t rfl (zq_258 hl hc hT hp rfl))))))
    rcases pk_ix x2 (n := 8) (by omega) with h | h | ⟨u, hu, rfl⟩
    · exact B2 (Or.inl h)
    · exact B2 (Or.inr h)
    · by_cases e : s = u
      · subst e
        exact br_t hz (zq_fpE hs (zq_stG hs (br_f (by decide) (zq_stG hs (br_f (by decide) (br_t rfl (zq_258 hl hc hT hp rfl)))))))
      · have ne : ¬ nI s = nI u := fun z => e ((nI_eq (by omega) (by omega)).mp z)
        by_cases h0 : x3 < 0
        · exact br_t hz (zq_fpT hs hu ne (Or.inl h0) (zq_stG hs (br_f (by decide) (zq_stG hu (br_f (by decide) (br_f ne (br_t h0 (zq_258 hl hc hT hp rfl))))))))
        · by_cases h1 : x3 ≤ 30
          · obtain ⟨k, hk, ek⟩ := zq_of 30 (by decide) h0 h1
            have hT' : zq_T a1 a2 a3 a5 (upd (upd a6 (s * 8 + u) x3) (u * 8 + s) x3) := by
              obtain ⟨t1, t2, t3, t4, t5, t6⟩ := hT
              exact ⟨t1, t2, t3, t4, t5, zq_Nu (zq_Nu t6 ⟨k, by omega, hk, ek⟩) ⟨k, by omega, hk, ek⟩⟩
            exact br_t hz (zq_fpG hs hu ne h0 h1 (zq_stG hs (br_f (by decide) (zq_stG hu (br_f (by decide) (br_f ne (br_f h0 (br_t h1 (zq_258 hl hc hT' hp (h60 _))))))))))
          · exact br_t hz (zq_fpT hs hu ne (Or.inr h1) (zq_stG hs (br_f (by decide) (zq_stG hu (br_f (by decide) (br_f ne (br_f h0 (br_f h1 (zq_258 hl hc hT hp rfl)))))))))
theorem zq_161 {post : Int32 → St0 → Prop} {mc ms kc ks : Nat} {x0 x2 x3 x4 x5 x8 x10 z0 z1 b : Int32} {a1 a2 a3 a4 a5 a6 a7 a8 a9 : Nat → Int32} {l c : Nat} (hl : l ≤ 1) (hT : zq_T a1 a2 a3 a5 a6) (h60 : ∀ j, a6 j = nI 0) (hp : post 1 ()) (hx : (c = 0 ∧ (x8 = 0 ∨ x10 = 0)) ∨ (c = 1 ∧ x8 = 1 ∧ x10 = 1 ∧ a5 0 = x4)) (hz : z1 = z0) :
    wL_lawOf_161 post mc ms x0 x2 x3 x4 x5 x8 x10 z0 z1 kc ks (nI l) (nI c) b a1 a2 a3 a4 a5 a6 a7 a8 a9 := by
  refine br_t hz ?_
  rcases hx with ⟨rfl, hx⟩ | ⟨rfl, rfl, rfl, e5⟩
  · exact zq_delL (br_c (fun _ => zq_206 hl (by omega) hT h60 hp rfl) (fun h8 => br_t (hx.resolve_left h8) (zq_206 hl (by omega) hT h60 hp rfl)))
  · by_cases h0 : x3 < 0
    · exact zq_delT (Or.inl h0) (br_f (by decide) (br_f (by decide) (br_t h0 (zq_206 hl (by omega) hT h60 hp rfl))))
    · by_cases h1 : x3 ≤ 500
      · obtain ⟨k, hk, ek⟩ := zq_of 500 (by decide) h0 h1
        have hT' : zq_T a1 a2 a3 (upd a5 0 x3) a6 := by
          obtain ⟨t1, t2, t3, t4, t5, t6⟩ := hT
          exact ⟨t1, t2, t3, t4, zq_Nu t5 ⟨k, by omega, hk, ek⟩, t6⟩
        exact zq_delG h0 h1 (br_f (by decide) (br_f (by decide) (br_f h0 (br_t h1 (zq_206 hl (by omega) hT' h60 hp e5)))))
      · exact zq_delT (Or.inr h1) (br_f (by decide) (br_f (by decide) (br_f h0 (br_f h1 (zq_206 hl (by omega) hT h60 hp rfl)))))
/-- the flag 'there' -/
def zq_th (x8 : Int32) (l : Nat) (x1 : Int32) : Prop := (x8 = 0 ∧ (nI l = 0 ∨ nI l = 1 ∧ x1 ≠ 0)) ∨ (x8 = 1 ∧ l = 1 ∧ x1 = 0)
theorem zq_130 {post : Int32 → St0 → Prop} {mc ms kc ks : Nat} {x0 x1 x2 x3 x4 x5 x8 z0 b : Int32} {a1 a2 a3 a4 a5 a6 a7 a8 a9 : Nat → Int32} {l : Nat} (hl : l ≤ 1) (hT : zq_T a1 a2 a3 a5 a6) (h60 : ∀ j, a6 j = nI 0) (hp : post 1 ()) (h8 : zq_th x8 l x1) (hz : (z0 = 0 ∧ (x4 < 0 ∨ ¬ x4 ≤ 500)) ∨ (z0 = 1 ∧ ¬ x4 < 0 ∧ x4 ≤ 500)) :
    wL_lawOf_130 post mc ms x0 x1 x2 x3 x4 x5 x8 z0 kc ks (nI l) (nI 0) b a1 a2 a3 a4 a5 a6 a7 a8 a9 := by
  rcases h8 with ⟨rfl, h8⟩ | ⟨rfl, rfl, rfl⟩
  · exact zq_tripL h8 (br_t rfl (zq_161 hl hT h60 hp (Or.inl ⟨rfl, Or.inl rfl⟩) rfl))
  · rcases hz with ⟨rfl, hz⟩ | ⟨rfl, h0, h1⟩
    · exact zq_tripT hz (br_f (by decide) (br_t rfl (zq_161 hl hT h60 hp (Or.inl ⟨rfl, Or.inr rfl⟩) rfl)))
    · obtain ⟨k, hk, ek⟩ := zq_of 500 (by decide) h0 h1
      have hT' : zq_T a1 a2 a3 (upd a5 0 x4) a6 := by
        obtain ⟨t1, t2, t3, t4, t5, t6⟩ := hT
        exact ⟨t1, t2, t3, t4, zq_Nu t5 ⟨k, by omega, hk, ek⟩, t6⟩
      exact zq_tripG h0 h1 (br_f (by decide) (br_f (by decide) (zq_161 (c := 1) hl hT' h60 hp (Or.inr ⟨rfl, rfl, rfl, pk_us⟩) rfl)))
theorem zq_95 {post : Int32 → St0 → Prop} {mc ms kc ks : Nat} {x0 x1 x2 x3 x4 x5 x8 z0 b : Int32} {a1 a2 a3 a4 a5 a6 a7 a8 a9 : Nat → Int32} {l : Nat} (hl : l ≤ 1) (h60 : ∀ j, a6 j = nI 0) (hp : post 1 ()) (h8 : zq_th x8 l x1)
    (hE : ∀ q : Int32 → St2 → Prop, (∀ a1' a2' a3', zq_T a1' a2' a3' a5 a6 → q z0 (nI l, nI 0, b, a1', a2', a3', a4, a5, a6, a7, a8, a9)) → wpX_extend q (nI l, nI 0, b, a1, a2, a3, a4, a5, a6, a7, a8, a9) x1 x2 x3) :
    wL_lawOf_95 post mc ms x0 x1 x2 x3 x4 x5 x8 z0 kc ks (nI l) (nI 0) b a1 a2 a3 a4 a5 a6 a7 a8 a9 :=
  hE _ (fun _ _ _ hT => br_t rfl (br_c (fun h => zq_130 hl hT h60 hp h8 (Or.inl ⟨rfl, Or.inl h⟩)) (fun h => br_c (fun h2 => zq_130 hl hT h60 hp h8 (Or.inl ⟨rfl, Or.inr (zq_ltn h2)⟩)) (fun h2 => zq_130 hl hT h60 hp h8 (Or.inr ⟨rfl, h, zq_nlt h2⟩)))))
theorem zq_50F {post : Int32 → St0 → Prop} {mc ms kc ks : Nat} {x0 x1 x2 x3 x4 x5 b : Int32} {a1 a2 a3 a4 a5 a6 a7 a8 a9 : Nat → Int32} {l : Nat} (hl : l ≤ 1) (hT : zq_T a1 a2 a3 a5 a6) (h60 : ∀ j, a6 j = nI 0) (hp : post 1 ()) (h : nI l = 0 ∨ nI l = 1 ∧ x1 ≠ 0) :
    wL_lawOf_50 post mc ms x0 x1 x2 x3 x4 x5 0 kc ks (nI l) (nI 0) b a1 a2 a3 a4 a5 a6 a7 a8 a9 :=
  br_t rfl (zq_95 hl h60 hp (Or.inl ⟨rfl, h⟩) (fun q hq => zq_extL h (hq _ _ _ hT)))
theorem zq_50T {post : Int32 → St0 → Prop} {mc ms kc ks : Nat} {x2 x3 x4 x5 b : Int32} {a1 a2 a3 a4 a5 a6 a7 a8 a9 : Nat → Int32} {s : Nat} (hs : s < 8) (hT : zq_T a1 a2 a3 a5 a6) (h60 : ∀ j, a6 j = nI 0) (hp : post 1 ()) (e1 : a1 0 = nI 1) (e2 : a2 0 = nI s) :
    wL_lawOf_50 post mc ms (nI s) 0 x2 x3 x4 x5 1 kc ks (nI 1) (nI 0) b a1 a2 a3 a4 a5 a6 a7 a8 a9 := by
  have hl : 1 ≤ 1 := Nat.le_refl 1
  have th : zq_th 1 1 0 := Or.inr ⟨rfl, rfl, rfl⟩
  refine br_f (by decide) ?_
  have B2 : zq_bad x2 → wL_lawOf_95 post mc ms (nI s) 0 x2 x3 x4 x5 1 (-1) kc ks (nI 1) (nI 0) b a1 a2 a3 a4 a5 a6 a7 a8 a9 := fun h => zq_95 hl h60 hp th (fun q hq => zq_extS h (hq _ _ _ hT))
  rcases pk_ix x2 (n := 8) (by omega) with h | h | ⟨u, hu, rfl⟩
  · exact zq_stB (Or.inl h) (br_t rfl (B2 (Or.inl h)))
  · exact zq_stB (Or.inr h) (br_t rfl (B2 (Or.inr h)))
  · refine zq_stG hu (br_f (by decide) ?_)
    by_cases e : u = s
    · subst e
      exact br_t rfl (zq_95 hl h60 hp th (fun q hq => zq_ext1 e1 hu (fun _ => hq _ _ _ hT) (fun z => absurd e2 z)))
    · have ne : ¬ nI u = nI s := fun z => e ((nI_eq (by omega) (by omega)).mp z)
      have ne2 : ¬ a2 0 = nI u := fun z => ne (z.symm.trans e2)
      refine br_f ne ?_
      by_cases h1 : x3 < 1
      · exact br_t h1 (zq_95 hl h60 hp th (fun q hq => zq_ext1 e1 hu (fun z => absurd z ne2) (fun _ => zq_ext2 (Or.inl h1) (hq _ _ _ hT))))
      · by_cases h2 : x3 ≤ 30
        · obtain ⟨k, hk, ek⟩ := zq_of 30 (by decide) (zq_one h1) h2
          have hT' : zq_T (upd a1 0 (nI 2)) (upd a2 1 (nI u)) (upd a3 1 (a3 0 + x3)) a5 a6 := by
            obtain ⟨t1, t2, t3, t4, t5, t6⟩ := hT
            refine ⟨⟨2, by omega, pk_us⟩, zq_Nu t2 ⟨u, by omega, by omega, rfl⟩, zq_Nu t3 ⟨k, by omega, hk, ?_⟩, ?_, t5, t6⟩
            · rw [t4, ek, nI_add, Nat.zero_add]
            · rw [pk_un (by omega)]; exact t4
          exact br_f h1 (br_t h2 (zq_95 hl h60 hp th (fun q hq => zq_ext1 e1 hu (fun z => absurd z ne2) (fun _ => zq_ext3 h1 h2 (hq _ _ _ hT')))))
        · exact br_f h1 (br_f h2 (zq_95 hl h60 hp th (fun q hq => zq_ext1 e1 hu (fun z => absurd z ne2) (fun _ => zq_ext2 (Or.inr h2) (hq _ _ _ hT)))))
theorem zq_T0 : zq_T (fun _ => 0) (fun _ => 0) (fun _ => 0) (fun _ => 0) (fun _ => 0) :=
  ⟨⟨0, by omega, rfl⟩, fun _ => ⟨0, by omega, by omega, rfl⟩, fun _ => ⟨0, by omega, by omega, rfl⟩, rfl, fun _ => ⟨0, by omega, by omega, rfl⟩, fun _ => ⟨0, by omega, by omega, rfl⟩⟩
theorem zq_T1 {s : Nat} (hs : s < 8) : zq_T (upd (fun _ => 0) 0 (nI 1)) (upd (fun _ => 0) 0 (nI s)) (upd (fun _ => 0) 0 (nI 0)) (fun _ => 0) (fun _ => 0) := by
  obtain ⟨t1, t2, t3, t4, t5, t6⟩ := zq_T0
  exact ⟨⟨1, by omega, pk_us⟩, zq_Nu t2 ⟨s, by omega, by omega, rfl⟩, zq_Nu t3 ⟨0, by omega, by omega, rfl⟩, pk_us, t5, t6⟩
theorem zq_lawOf {post : Int32 → St0 → Prop} {p0 p1 p2 p3 p4 p5 : Int32} (hp : post 1 ()) : wpL_lawOf post 10 189 () p0 p1 p2 p3 p4 p5 := by
  refine ⟨by omega, by omega, 9, 177, by omega, by omega, by omega, by omega, by omega, by omega, by omega, by omega, by omega, by omega, by omega, by omega, by omega, by omega, by omega, by omega, by omega, by omega, by omega, by omega, ?_⟩
  rcases pk_ix p0 (n := 8) (by omega) with h | h | ⟨s, hs, rfl⟩
  · exact zq_stB (Or.inl h) (zq_lineB (Or.inl h) (br_t rfl (br_t rfl (br_t rfl (zq_50F (l := 0) (by omega) zq_T0 (fun _ => rfl) hp (Or.inl rfl))))))
  · exact zq_stB (Or.inr h) (zq_lineB (Or.inr h) (br_t rfl (br_t rfl (br_t rfl (zq_50F (l := 0) (by omega) zq_T0 (fun _ => rfl) hp (Or.inl rfl))))))
  · refine zq_stG hs (zq_lineG hs (br_f (by decide) (br_t rfl (br_f (by decide) (br_c (fun e => ?_) (fun e => ?_))))))
    · subst e
      exact zq_50T hs (zq_T1 hs) (fun _ => rfl) hp pk_us pk_us
    · exact zq_50F (l := 1) (by omega) (zq_T1 hs) (fun _ => rfl) hp (Or.inr ⟨rfl, e⟩)
theorem i_vc (xs : Nat → Int32) (L : Nat) (hL : L ≤ 6) : wpL_law (fun r => r = 1) L xs :=
  zq_cell hL 0 (by omega) (fun _ => zq_cell hL 1 (by omega) (fun _ => zq_cell hL 2 (by omega) (fun _ => zq_cell hL 3 (by omega) (fun _ => zq_cell hL 4 (by omega) (fun _ => zq_cell hL 5 (by omega) (fun _ => ⟨10, 189, by omega, by omega, zq_lawOf rfl⟩))))))
end
