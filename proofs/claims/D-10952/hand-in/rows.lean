section
/-- the first N places hold -4 -/
def il_N (N : Nat) (f : Nat → Int32) : Prop := ∀ j, j < N → f j = -4
/-- the starts: 0 up to module m, c behind it -/
def il_S (m c : Nat) (f : Nat → Int32) : Prop := (∀ j, j ≤ m → f j = 0) ∧ (∀ j, m < j → j ≤ 6 → f j = nI c)
theorem il_fill {s : Nat → Int32} {i k : Nat} (hk : k = i) (h : il_N i s) : il_N (i + 1) (upd s k (-4)) := by
  intro j hj
  rw [hk]
  by_cases e : j = i
  · rw [e, pk_us]
  · rw [pk_un e]
    exact h j (by omega)
theorem il_N0 {s : Nat → Int32} : il_N 0 s := fun j hj => absurd hj (by omega)
theorem il_neg : (-4 : Int32) < 0 := by decide
theorem il_ix (i s : Nat) : nI i * 10 + nI s = nI (i * 10 + s) := by
  show nI i * nI 10 + nI s = nI (i * 10 + s)
  rw [pk_mul, nI_add]
theorem il_5 : (5 : Int32) = nI 6 + (-1) := by decide
theorem il_hi {x : Int32} {k : Nat} (hk : k + 1 < 2 ^ 31) (h : nI (k + 1) ≤ x) : ¬ x < 0 ∧ nI k < x ∧ ¬ x < nI (k + 1) := by
  rw [Int32.le_iff_toInt_le, nI_toInt hk] at h
  rw [Int32.lt_iff_toInt_lt, Int32.lt_iff_toInt_lt, Int32.lt_iff_toInt_lt, nI_toInt hk, nI_toInt (show k < 2 ^ 31 by omega), ← nI_0, nI_toInt (show 0 < 2 ^ 31 by omega)]
  omega
/-! the maker -/
theorem il_i146 {post : St2 → Prop} {mc ms kc ks : Nat} {b1 b2 b3 b4 b5 b6 b7 b8 b9 b10 : Nat → Int32} (H : ∀ c3, il_N 48 c3 → post (b1, b2, c3, b4, b5, b6, b7, b8, b9, b10)) : ∃ n, wX_init_146 post mc ms kc ks n 0 b1 b2 b3 b4 b5 b6 b7 b8 b9 b10 :=
  pk_loop (fun n i s => wX_init_146 post mc ms kc ks n (nI i) b1 b2 s b4 b5 b6 b7 b8 b9 b10) (fun i s => il_N i s) 48 0 b3 (by omega) il_N0
    (fun n s h => pk_le 48 48 (fun _ => H s h) (fun z => absurd z (by omega)))
    (fun n i s hi h hw => pk_le 48 i (fun z => absurd z (by omega)) (fun _ => ⟨pk_in i 48 (by omega), nm_e (nm_r (nI_1 i) (hw _ (il_fill (nI_clamp (by omega)) h)))⟩))
theorem il_i108 {post : St2 → Prop} {mc ms kc ks : Nat} {b1 b2 b3 b4 b5 b6 b7 b8 b9 b10 : Nat → Int32} (H : ∀ c3 c6 c7 c8, il_N 48 c3 → il_N 10 c6 → il_N 10 c7 → il_N 10 c8 → post (b1, b2, c3, b4, b5, c6, c7, c8, b9, b10)) : ∃ n, wX_init_108 post mc ms kc ks n 0 b1 b2 b3 b4 b5 b6 b7 b8 b9 b10 :=
  pk_loop (fun n i (s : (Nat → Int32) × (Nat → Int32) × (Nat → Int32)) => wX_init_108 post mc ms kc ks n (nI i) b1 b2 b3 b4 b5 s.1 s.2.1 s.2.2 b9 b10) (fun i s => il_N i s.1 ∧ il_N i s.2.1 ∧ il_N i s.2.2) 10 0 (b6, b7, b8) (by omega) ⟨il_N0, il_N0, il_N0⟩
    (fun n s h => pk_le 10 10 (fun _ => il_i146 (fun c3 h3 => H c3 s.1 s.2.1 s.2.2 h3 h.1 h.2.1 h.2.2)) (fun z => absurd z (by omega)))
    (fun n i s hi h hw => pk_le 10 i (fun z => absurd z (by omega)) (fun _ => ⟨pk_in i 10 (by omega), nm_e ⟨pk_in i 10 (by omega), nm_e ⟨pk_in i 10 (by omega), nm_e (nm_r (nI_1 i) (hw (upd s.1 (nI i).toNatClampNeg (-4), upd s.2.1 (nI i).toNatClampNeg (-4), upd s.2.2 (nI i).toNatClampNeg (-4)) ⟨il_fill (nI_clamp (by omega)) h.1, il_fill (nI_clamp (by omega)) h.2.1, il_fill (nI_clamp (by omega)) h.2.2⟩))⟩⟩⟩))
theorem il_i86 {post : St2 → Prop} {mc ms kc ks : Nat} {b1 b2 b3 b4 b5 b6 b7 b8 b9 b10 : Nat → Int32} (H : ∀ c3 c5 c6 c7 c8, il_N 48 c3 → il_N 60 c5 → il_N 10 c6 → il_N 10 c7 → il_N 10 c8 → post (b1, b2, c3, b4, c5, c6, c7, c8, b9, b10)) : ∃ n, wX_init_86 post mc ms kc ks n 0 b1 b2 b3 b4 b5 b6 b7 b8 b9 b10 :=
  pk_loop (fun n i s => wX_init_86 post mc ms kc ks n (nI i) b1 b2 b3 b4 s b6 b7 b8 b9 b10) (fun i s => il_N i s) 60 0 b5 (by omega) il_N0
    (fun n s h => pk_le 60 60 (fun _ => il_i108 (fun c3 c6 c7 c8 h3 h6 h7 h8 => H c3 s c6 c7 c8 h3 h h6 h7 h8)) (fun z => absurd z (by omega)))
    (fun n i s hi h hw => pk_le 60 i (fun z => absurd z (by omega)) (fun _ => ⟨pk_in i 60 (by omega), nm_e (nm_r (nI_1 i) (hw _ (il_fill (nI_clamp (by omega)) h)))⟩))
theorem il_init {post : St2 → Prop} {mc ms : Nat} (hc : 10 ≤ mc) (hs : 337 ≤ ms) (H : ∀ c3 c5 c6 c7 c8, il_N 48 c3 → il_N 60 c5 → il_N 10 c6 → il_N 10 c7 → il_N 10 c8 → post ((fun _ => 0), (fun _ => 0), c3, (fun _ => 0), c5, c6, c7, c8, (fun _ => 0), (fun _ => 0))) : wpX_init post mc ms () :=
  ⟨by omega, by omega, by omega, by omega, by omega, by omega, by omega, by omega, by omega, by omega, by omega, by omega, by omega, by omega, by omega, by omega, by omega, by omega, by omega, by omega, il_i86 H⟩
end
section
/-! refresh: the inner loop over the modules, downwards -/
theorem il_r13a {post : St2 → Prop} {J2 : Int32 → (Nat → Int32) → (Nat → Int32) → (Nat → Int32) → (Nat → Int32) → (Nat → Int32) → (Nat → Int32) → (Nat → Int32) → (Nat → Int32) → (Nat → Int32) → (Nat → Int32) → Prop} {a1 a2 a3 a4 a5 a6 a7 a8 a9 a10 : Nat → Int32} {s : Nat} (hs : s < 10) (h : ∀ k, k < 6 → a5 (k * 10 + s) < 0) (H : wX_refresh_70 post J2 (nI s) (-4) (-4) a1 a2 a3 a4 a5 a6 a7 a8 a9 a10) : ∃ n, wX_refresh_13 post J2 (nI s) a1 a2 a3 a4 a5 a6 a7 a8 a9 a10 n (-4) 5 := by
  refine ⟨7, ?_⟩
  rw [il_5]
  refine pk_loopD (σ := Unit) (fun n i _ => wX_refresh_13 post J2 (nI s) a1 a2 a3 a4 a5 a6 a7 a8 a9 a10 n (-4) (nI i + (-1))) (fun i _ => i ≤ 6) ?_ ?_ 6 () (Nat.le_refl 6)
  · intro n _ _
    show wX_refresh_13 post J2 (nI s) a1 a2 a3 a4 a5 a6 a7 a8 a9 a10 (n + 1) (-4) (nI 0 + (-1))
    exact br_t (by decide) (br_f (by decide) H)
  · intro n i _ hi hw
    have hi' : i < 6 := hi
    show wX_refresh_13 post J2 (nI s) a1 a2 a3 a4 a5 a6 a7 a8 a9 a10 (n + 1) (-4) (nI (i + 1) + (-1))
    rw [pk_m1]
    have e : nI i * 10 + nI s = nI (i * 10 + s) := il_ix i s
    have ec : (nI i * 10 + nI s).toNatClampNeg = i * 10 + s := by rw [e]; exact nI_clamp (by omega)
    exact br_f (nI_pos (by omega)) ⟨pk_in (i * 10 + s) 60 (by omega) e, br_t (by rw [ec]; exact h i hi') (nm_e (hw () (by omega)))⟩
theorem il_r13b {post : St2 → Prop} {J2 : Int32 → (Nat → Int32) → (Nat → Int32) → (Nat → Int32) → (Nat → Int32) → (Nat → Int32) → (Nat → Int32) → (Nat → Int32) → (Nat → Int32) → (Nat → Int32) → (Nat → Int32) → Prop} {a1 a2 a3 a4 a5 a6 a7 a8 a9 a10 : Nat → Int32} {s m : Nat} (hs : s < 10) (hm : m < 6) (h0 : ¬ a5 (m * 10 + s) < 0) (h : ∀ k, k < 6 → k ≠ m → a5 (k * 10 + s) < 0) (H : wX_refresh_70 post J2 (nI s) (nI m) (a1 m + a5 (m * 10 + s)) a1 a2 a3 a4 a5 a6 a7 a8 a9 a10) : ∃ n, wX_refresh_13 post J2 (nI s) a1 a2 a3 a4 a5 a6 a7 a8 a9 a10 n (-4) 5 := by
  refine ⟨7, ?_⟩
  rw [il_5]
  refine pk_loopD (fun n i (x : Int32) => wX_refresh_13 post J2 (nI s) a1 a2 a3 a4 a5 a6 a7 a8 a9 a10 n x (nI i + (-1))) (fun i x => i ≤ 6 ∧ x = if i ≤ m then nI m else -4) ?_ ?_ 6 (-4) ⟨Nat.le_refl 6, by rw [if_neg (by omega)]⟩
  · intro n x hx
    obtain ⟨_, hx⟩ := hx
    rw [if_pos (by omega)] at hx
    subst hx
    have e : nI m * 10 + nI s = nI (m * 10 + s) := il_ix m s
    have ec : (nI m * 10 + nI s).toNatClampNeg = m * 10 + s := by rw [e]; exact nI_clamp (by omega)
    show wX_refresh_13 post J2 (nI s) a1 a2 a3 a4 a5 a6 a7 a8 a9 a10 (n + 1) (nI m) (nI 0 + (-1))
    refine br_t (by decide) (br_t (nI_pos' (by omega)) ⟨pk_in m 7 (by omega), pk_in (m * 10 + s) 60 (by omega) e, ?_⟩)
    rw [ec, nI_clamp (show m < 2 ^ 31 by omega)]
    exact H
  · intro n i x hx hw
    obtain ⟨hi, hx⟩ := hx
    have hi' : i < 6 := hi
    show wX_refresh_13 post J2 (nI s) a1 a2 a3 a4 a5 a6 a7 a8 a9 a10 (n + 1) x (nI (i + 1) + (-1))
    rw [pk_m1]
    have e : nI i * 10 + nI s = nI (i * 10 + s) := il_ix i s
    have ec : (nI i * 10 + nI s).toNatClampNeg = i * 10 + s := by rw [e]; exact nI_clamp (by omega)
    refine br_f (nI_pos (by omega)) ⟨pk_in (i * 10 + s) 60 (by omega) e, ?_⟩
    by_cases em : i = m
    · subst em
      exact br_f (by rw [ec]; exact h0) (nm_e (hw (nI i) ⟨by omega, by rw [if_pos (Nat.le_refl i)]⟩))
    · refine br_t (by rw [ec]; exact h i hi' em) (nm_e (hw x ⟨by omega, ?_⟩))
      rw [hx]
      by_cases el : i + 1 ≤ m
      · rw [if_pos el, if_pos (by omega)]
      · rw [if_neg el, if_neg (by omega)]
/-- refresh where nothing is defined -/
theorem il_rfA {post : St2 → Prop} {a1 a2 a3 a4 a5 a6 a7 a8 a9 a10 : Nat → Int32} (h5 : il_N 60 a5) (h6 : il_N 10 a6) (H : ∀ b7, post (a1, a2, a3, a4, a5, a6, b7, a8, a9, a10)) : wpX_refresh post (a1, a2, a3, a4, a5, a6, a7, a8, a9, a10) :=
  pk_loop (fun n i s => wX_refresh_2 post n (nI i) a1 a2 a3 a4 a5 a6 s a8 a9 a10) (fun _ _ => True) 10 0 a7 (by omega) trivial
    (fun n s _ => pk_le 10 10 (fun _ => H s) (fun z => absurd z (by omega)))
    (fun n i s hi _ hw => pk_le 10 i (fun z => absurd z (by omega)) (fun _ => il_r13a hi (fun k hk => by rw [h5 _ (by omega)]; exact il_neg)
      ⟨pk_in i 10 hi, nm_e ⟨pk_in i 10 hi, br_t (by rw [nI_clamp (by omega)]; exact (h6 i hi).symm) (nm_r (nI_1 i) (hw _ trivial))⟩⟩))
/-! bind and rebind -/
theorem il_bind1 {post : St2 → Prop} {a1 a2 a3 a4 a5 a6 a7 a8 a9 a10 : Nat → Int32} {p s w : Nat} (hp : p < 48) (hs : s < 10) (h3 : a3 p = nI s) (h6 : a6 s = nI w) (hw : w < 2 ^ 31) (H : post (a1, upd a2 p (nI w + a4 p), a3, a4, a5, a6, a7, a8, a9, a10)) : wpX_bind post (a1, a2, a3, a4, a5, a6, a7, a8, a9, a10) (nI p) := by
  refine ⟨pk_in p 48 hp, nm_r (e' := nI s) (by rw [nI_clamp (by omega), h3]) ⟨pk_in s 10 hs, ?_⟩⟩
  rw [nI_clamp (show s < 2 ^ 31 by omega), nI_clamp (show p < 2 ^ 31 by omega), h6]
  exact br_t (nI_pos' hw) ⟨pk_in s 10 hs, pk_in p 48 hp, pk_in p 48 hp, nm_e H⟩
theorem il_bind0 {post : St2 → Prop} {a1 a2 a3 a4 a5 a6 a7 a8 a9 a10 : Nat → Int32} {p s : Nat} (hp : p < 48) (hs : s < 10) (h3 : a3 p = nI s) (h6 : a6 s = -4) (H : post (a1, upd a2 p (-1), a3, a4, a5, a6, a7, a8, a9, a10)) : wpX_bind post (a1, a2, a3, a4, a5, a6, a7, a8, a9, a10) (nI p) := by
  refine ⟨pk_in p 48 hp, nm_r (e' := nI s) (by rw [nI_clamp (by omega), h3]) ⟨pk_in s 10 hs, ?_⟩⟩
  rw [nI_clamp (show s < 2 ^ 31 by omega), nI_clamp (show p < 2 ^ 31 by omega), h6]
  exact br_f (by decide) ⟨pk_in p 48 hp, nm_e H⟩
theorem il_rbN {post : St2 → Prop} {a1 a2 a3 a4 a5 a6 a7 a8 a9 a10 : Nat → Int32} {s : Nat} (hs : s < 10) (h8 : a8 s = -4) (H : post (a1, a2, a3, a4, a5, a6, a7, a8, a9, a10)) : wpX_rebind post (a1, a2, a3, a4, a5, a6, a7, a8, a9, a10) (nI s) :=
  ⟨pk_in s 10 hs, nm_r (e' := -4) (by rw [nI_clamp (by omega), h8]) ⟨1, br_f (by decide) (br_t (by decide) H)⟩⟩
theorem il_rb1 {post : St2 → Prop} {a1 a2 a3 a4 a5 a6 a7 a8 a9 a10 : Nat → Int32} {s w : Nat} (hs : s < 10) (h8 : a8 s = nI 1) (h9 : a9 1 = -4) (h3 : a3 1 = nI s) (h6 : a6 s = nI w) (hw : w < 2 ^ 31) (H : post (a1, upd a2 1 (nI w + a4 1), a3, a4, a5, a6, a7, a8, a9, a10)) : wpX_rebind post (a1, a2, a3, a4, a5, a6, a7, a8, a9, a10) (nI s) := by
  refine ⟨pk_in s 10 hs, nm_r (e' := nI 1) (by rw [nI_clamp (by omega), h8]) ⟨2, br_f (by decide) (br_f (by decide) ?_)⟩⟩
  refine il_bind1 (by omega) hs h3 h6 hw ?_
  exact ⟨pk_in 1 48 (by omega), nm_r (e' := -4) (by rw [nI_clamp (by omega), h9]) (nm_r (e' := nI 1) (by decide) (br_f (by decide) (br_t (by decide) H)))⟩
/-- refresh where module m alone defines a name, nm, at w: its address is w, and the place that refers to it (there is at most one: place 1) is written -/
theorem il_rfB {post : St2 → Prop} {a1 a2 a3 a4 a5 a6 a7 a8 a9 a10 : Nat → Int32} {m nm w : Nat} (hm : m < 6) (hn : nm < 10) (hw : w < 2 ^ 31) (h1 : a1 m = 0) (h5 : a5 (m * 10 + nm) = nI w) (h5' : ∀ j, j < 60 → j ≠ m * 10 + nm → a5 j = -4) (h6 : il_N 10 a6)
    (h8 : a8 nm = -4 ∨ (a8 nm = nI 1 ∧ a9 1 = -4 ∧ a3 1 = nI nm))
    (H : ∀ b2 b6 b7, b6 nm = nI w → (a8 nm = nI 1 → b2 1 = nI w + a4 1) → post (a1, b2, a3, a4, a5, b6, b7, a8, a9, a10)) : wpX_refresh post (a1, a2, a3, a4, a5, a6, a7, a8, a9, a10) := by
  refine pk_loop (fun n i (s : (Nat → Int32) × (Nat → Int32) × (Nat → Int32)) => wX_refresh_2 post n (nI i) a1 s.1 a3 a4 a5 s.2.1 s.2.2 a8 a9 a10)
    (fun i s => (∀ j, j < 10 → (j ≠ nm ∨ i ≤ nm) → s.2.1 j = -4) ∧ (nm < i → s.2.1 nm = nI w ∧ (a8 nm = nI 1 → s.1 1 = nI w + a4 1))) 10 0 (a2, a6, a7) (by omega)
    ⟨fun j hj _ => h6 j hj, fun z => absurd z (by omega)⟩ ?_ ?_
  · intro n s h
    exact pk_le 10 10 (fun _ => H s.1 s.2.1 s.2.2 (h.2 hn).1 (h.2 hn).2) (fun z => absurd z (by omega))
  · intro n i s hi h hW
    refine pk_le 10 i (fun z => absurd z (by omega)) (fun _ => ?_)
    by_cases e : i = nm
    · subst e
      refine il_r13b hi hm (by rw [h5]; exact nI_pos hw) (fun k hk hkm => by rw [h5' _ (by omega) (by omega)]; exact il_neg) ?_
      have ez : a1 m + a5 (m * 10 + i) = nI w := by rw [h1, h5, Int32.zero_add]
      rw [ez]
      refine ⟨pk_in i 10 hi, nm_e ⟨pk_in i 10 hi, ?_⟩⟩
      rw [nI_clamp (show i < 2 ^ 31 by omega), h.1 i hi (Or.inr (Nat.le_refl i))]
      refine br_f (fun z => absurd il_neg (by rw [← z]; exact nI_pos hw)) ⟨pk_in i 10 hi, nm_e ?_⟩
      have k1 : ∀ j, j < 10 → (j ≠ i ∨ i + 1 ≤ i) → upd s.2.1 i (nI w) j = -4 := fun j hj hd => by
        rw [pk_un (by omega)]
        exact h.1 j hj (by omega)
      rcases h8 with g | ⟨g, g9, g3⟩
      · refine il_rbN hi g (nm_r (nI_1 i) (hW (s.1, upd s.2.1 i (nI w), upd s.2.2 i (nI m)) ⟨k1, fun _ => ⟨show upd s.2.1 i (nI w) i = nI w from pk_us, fun z => ?_⟩⟩))
        exact absurd (g.symm.trans z) (by decide)
      · exact il_rb1 hi g g9 g3 pk_us hw (nm_r (nI_1 i) (hW (upd s.1 1 (nI w + a4 1), upd s.2.1 i (nI w), upd s.2.2 i (nI m)) ⟨k1, fun _ => ⟨show upd s.2.1 i (nI w) i = nI w from pk_us, fun _ => show upd s.1 1 (nI w + a4 1) 1 = nI w + a4 1 from pk_us⟩⟩))
    · refine il_r13a hi (fun k hk => by rw [h5' _ (by omega) (by omega)]; exact il_neg) ⟨pk_in i 10 hi, nm_e ⟨pk_in i 10 hi, ?_⟩⟩
      rw [nI_clamp (show i < 2 ^ 31 by omega), h.1 i hi (Or.inl e)]
      exact br_t rfl (nm_r (nI_1 i) (hW (s.1, s.2.1, upd s.2.2 i (-4)) ⟨fun j hj hd => h.1 j hj (by omega), fun z => h.2 (by omega)⟩))
end
section
/-! the small methods -/
theorem il_bad0 {post : Int32 → Prop} {a1 a2 a3 a4 a5 a6 a7 a8 a9 a10 : Nat → Int32} {m : Nat} (hm : m < 6) (H : post 0) : wpX_bad post (a1, a2, a3, a4, a5, a6, a7, a8, a9, a10) (nI m) :=
  br_f (nI_pos (by omega)) (br_t (nI_lt (b := 6) hm (by decide)) H)
theorem il_bad1 {post : Int32 → Prop} {a1 a2 a3 a4 a5 a6 a7 a8 a9 a10 : Nat → Int32} {x : Int32} (h : x < 0 ∨ nI 6 ≤ x) (H : post 1) : wpX_bad post (a1, a2, a3, a4, a5, a6, a7, a8, a9, a10) x := by
  rcases h with h | h
  · exact br_t h H
  · have k := il_hi (k := 5) (by decide) h
    exact br_f k.1 (br_f k.2.2 H)
theorem il_nam0 {post : Int32 → Prop} {a1 a2 a3 a4 a5 a6 a7 a8 a9 a10 : Nat → Int32} {m : Nat} (hm : m < 10) (H : post 0) : wpX_badName post (a1, a2, a3, a4, a5, a6, a7, a8, a9, a10) (nI m) :=
  br_f (nI_pos (by omega)) (br_t (nI_lt (b := 10) hm (by decide)) H)
theorem il_nam1 {post : Int32 → Prop} {a1 a2 a3 a4 a5 a6 a7 a8 a9 a10 : Nat → Int32} {x : Int32} (h : x < 0 ∨ nI 10 ≤ x) (H : post 1) : wpX_badName post (a1, a2, a3, a4, a5, a6, a7, a8, a9, a10) x := by
  rcases h with h | h
  · exact br_t h H
  · have k := il_hi (k := 9) (by decide) h
    exact br_f k.1 (br_f k.2.2 H)
theorem il_words {post : Int32 → Prop} {a1 a2 a3 a4 a5 a6 a7 a8 a9 a10 : Nat → Int32} {m c : Nat} (hm : m < 6) (h1 : il_S m c a1) (H : post (nI c)) : wpX_words post (a1, a2, a3, a4, a5, a6, a7, a8, a9, a10) (nI m) := by
  refine ⟨pk_in (m + 1) 7 (by omega) (nI_1 m), pk_in m 7 (by omega), ?_⟩
  rw [nI_1, nI_clamp (show m + 1 < 2 ^ 31 by omega), nI_clamp (show m < 2 ^ 31 by omega), h1.1 m (Nat.le_refl m), h1.2 (m + 1) (by omega) (by omega), Int32.sub_zero]
  exact H
theorem il_o33 {post : St2 → Prop} {a1 a2 a3 a4 a5 a6 a7 a8 a9 a10 : Nat → Int32} {m c : Nat} (hm : m < 6) (h1 : il_S m c a1) (H : ∀ b1, il_S m (c + 1) b1 → post (b1, a2, a3, a4, a5, a6, a7, a8, a9, a10)) : ∃ n, wX_open_33 post n (nI (m + 1)) a1 a2 a3 a4 a5 a6 a7 a8 a9 a10 := by
  refine pk_loop (fun n i s => wX_open_33 post n (nI i) s a2 a3 a4 a5 a6 a7 a8 a9 a10) (fun i s => m < i ∧ (∀ j, j ≤ m → s j = 0) ∧ (∀ j, m < j → j < i → s j = nI (c + 1)) ∧ (∀ j, i ≤ j → j ≤ 6 → s j = nI c)) 7 (m + 1) a1 (by omega)
    ⟨by omega, h1.1, fun j g g' => absurd g' (by omega), fun j g g' => h1.2 j (by omega) g'⟩ ?_ ?_
  · intro n s h
    exact pk_lt 6 7 (fun _ => H s ⟨h.2.1, fun j g g' => h.2.2.1 j g (by omega)⟩) (fun z => absurd z (by omega))
  · intro n i s hi h hw
    obtain ⟨k0, k1, k2, k3⟩ := h
    refine pk_lt 6 i (fun z => absurd z (by omega)) (fun _ => ⟨pk_in i 7 hi, pk_in i 7 hi, nm_e (nm_r (nI_1 i) ?_)⟩)
    rw [nI_clamp (show i < 2 ^ 31 by omega), k3 i (Nat.le_refl i) (by omega), nI_1]
    refine hw _ ⟨by omega, fun j g => ?_, fun j g g' => ?_, fun j g g' => ?_⟩
    · rw [pk_un (by omega)]
      exact k1 j g
    · by_cases e : j = i
      · rw [e, pk_us]
      · rw [pk_un e]
        exact k2 j g (by omega)
    · rw [pk_un (by omega)]
      exact k3 j (by omega) g'
theorem il_op {post : St2 → Prop} {a1 a2 a3 a4 a5 a6 a7 a8 a9 a10 : Nat → Int32} {m c : Nat} (hm : m < 6) (hc : c ≤ 1) (h1 : il_S m c a1) (H : ∀ b1, il_S m (c + 1) b1 → post (b1, a2, a3, a4, a5, a6, a7, a8, a9, a10)) : wpX_open post (a1, a2, a3, a4, a5, a6, a7, a8, a9, a10) (nI m) (nI c) := by
  have hl : a1 6 - 1 < nI c := by
    rw [h1.2 6 (by omega) (Nat.le_refl 6)]
    rcases (show c = 0 ∨ c = 1 by omega) with e | e
    · subst e
      decide
    · subst e
      decide
  exact nm_e ⟨1, br_t hl (nm_r (nI_1 m) (il_o33 hm h1 H))⟩
/-- a constant is put: only values, names and addends change -/
theorem il_putC {post : St2 → Prop} {a1 a2 a3 a4 a5 a6 a7 a8 a9 a10 : Nat → Int32} {p : Nat} {v : Int32} (hp : p < 48) (H : ∀ b2 b3 b4, post (a1, b2, b3, b4, a5, a6, a7, a8, a9, a10)) : wpX_put post (a1, a2, a3, a4, a5, a6, a7, a8, a9, a10) (nI p) v (-4) 0 :=
  ⟨pk_in p 48 hp, nm_e ⟨pk_in p 48 hp, nm_e ⟨pk_in p 48 hp, nm_e (br_t (by decide) (H _ _ _))⟩⟩⟩
theorem il_link {post : St2 → Prop} {a1 a2 a3 a4 a5 a6 a7 a8 a9 a10 : Nat → Int32} {p s : Nat} (hp : p < 48) (hs : s < 10) (h8 : a8 s = -4) (H : post (a1, a2, a3, a4, a5, a6, a7, upd a8 s (nI p), upd a9 p (-4), upd a10 p (-4))) : wpX_link post (a1, a2, a3, a4, a5, a6, a7, a8, a9, a10) (nI p) (nI s) := by
  refine ⟨pk_in s 10 hs, nm_r (e' := -4) (by rw [nI_clamp (by omega), h8]) ?_⟩
  rw [nI_clamp (show s < 2 ^ 31 by omega), nI_clamp (show p < 2 ^ 31 by omega)]
  exact ⟨pk_in p 48 hp, nm_e ⟨pk_in p 48 hp, nm_e (br_t (by decide) ⟨pk_in s 10 hs, nm_e H⟩)⟩⟩
/-- a reference to an undefined name that nothing refers to yet is put -/
theorem il_putR {post : St2 → Prop} {a1 a2 a3 a4 a5 a6 a7 a8 a9 a10 : Nat → Int32} {p s : Nat} {v d : Int32} (hp : p < 48) (hs : s < 10) (h6 : a6 s = -4) (h8 : a8 s = -4) (H : ∀ b2 b3 b4 b8 b9 b10, b2 p = -1 → b3 p = nI s → b4 p = d → b8 s = nI p → b9 p = -4 → post (a1, b2, b3, b4, a5, a6, a7, b8, b9, b10)) : wpX_put post (a1, a2, a3, a4, a5, a6, a7, a8, a9, a10) (nI p) v (nI s) d := by
  refine ⟨pk_in p 48 hp, nm_e ⟨pk_in p 48 hp, nm_e ⟨pk_in p 48 hp, nm_e (br_f (nI_pos (by omega)) ?_)⟩⟩⟩
  rw [nI_clamp (show p < 2 ^ 31 by omega)]
  refine il_link hp hs h8 ?_
  refine il_bind0 hp hs pk_us h6 ?_
  exact H _ _ _ _ _ _ pk_us pk_us pk_us pk_us pk_us
/-! append, constant, reference -/
theorem il_appC {post : Int32 → St2 → Prop} {a1 a2 a3 a4 a5 a6 a7 a8 a9 a10 : Nat → Int32} {m c : Nat} {v : Int32} (hm : m < 6) (hc : c ≤ 1) (h1 : il_S m c a1) (h5 : il_N 60 a5) (h6 : il_N 10 a6) (H : ∀ b1 b2 b3 b4 b7, il_S m (c + 1) b1 → post (nI (c + 1)) (b1, b2, b3, b4, a5, a6, b7, a8, a9, a10)) : wpX_append post (a1, a2, a3, a4, a5, a6, a7, a8, a9, a10) (nI m) v (-4) 0 := by
  unfold wpX_append
  dsimp only
  refine il_words hm h1 ?_
  refine pk_eq c 8 (fun z => absurd z (by omega)) (fun _ => ⟨pk_in (m + 1) 7 (by omega) (nI_1 m), nm_r (e' := nI c) (by rw [nI_1, nI_clamp (by omega), h1.2 (m + 1) (by omega) (by omega)]) ?_⟩)
  refine il_op hm hc h1 (fun b1 hb => ?_)
  refine il_putC (by omega) (fun b2 b3 b4 => ?_)
  refine il_rfA h5 h6 (fun b7 => ?_)
  exact il_words hm hb (H b1 b2 b3 b4 b7 hb)
theorem il_appR {post : Int32 → St2 → Prop} {a1 a2 a3 a4 a5 a6 a7 a8 a9 a10 : Nat → Int32} {m c s : Nat} {v d : Int32} (hm : m < 6) (hc : c ≤ 1) (hs : s < 10) (h1 : il_S m c a1) (h5 : il_N 60 a5) (h6 : il_N 10 a6) (h8 : il_N 10 a8) (H : ∀ b1 b2 b3 b4 b7 b8 b9 b10, il_S m (c + 1) b1 → b2 c = -1 → b3 c = nI s → b4 c = d → b8 s = nI c → b9 c = -4 → post (nI (c + 1)) (b1, b2, b3, b4, a5, a6, b7, b8, b9, b10)) : wpX_append post (a1, a2, a3, a4, a5, a6, a7, a8, a9, a10) (nI m) v (nI s) d := by
  unfold wpX_append
  dsimp only
  refine il_words hm h1 ?_
  refine pk_eq c 8 (fun z => absurd z (by omega)) (fun _ => ⟨pk_in (m + 1) 7 (by omega) (nI_1 m), nm_r (e' := nI c) (by rw [nI_1, nI_clamp (by omega), h1.2 (m + 1) (by omega) (by omega)]) ?_⟩)
  refine il_op hm hc h1 (fun b1 hb => ?_)
  refine il_putR (by omega) hs (h6 s hs) (h8 s hs) (fun b2 b3 b4 b8 b9 b10 g2 g3 g4 g8 g9 => ?_)
  refine il_rfA h5 h6 (fun b7 => ?_)
  exact il_words hm hb (H b1 b2 b3 b4 b7 b8 b9 b10 hb g2 g3 g4 g8 g9)
theorem il_conB {post : Int32 → St2 → Prop} {a1 a2 a3 a4 a5 a6 a7 a8 a9 a10 : Nat → Int32} {x v : Int32} (h : x < 0 ∨ nI 6 ≤ x) (H : post (-1) (a1, a2, a3, a4, a5, a6, a7, a8, a9, a10)) : wpX_constant post (a1, a2, a3, a4, a5, a6, a7, a8, a9, a10) x v := by
  unfold wpX_constant
  dsimp only
  refine il_bad1 h ?_
  exact br_f (by decide) H
theorem il_con {post : Int32 → St2 → Prop} {a1 a2 a3 a4 a5 a6 a7 a8 a9 a10 : Nat → Int32} {m : Nat} {v : Int32} (hm : m < 6) (h1 : il_S m 0 a1) (h5 : il_N 60 a5) (h6 : il_N 10 a6) (H : ∀ b1 b2 b3 b4 b7, il_S m 1 b1 → post (nI 1) (b1, b2, b3, b4, a5, a6, b7, a8, a9, a10)) : wpX_constant post (a1, a2, a3, a4, a5, a6, a7, a8, a9, a10) (nI m) v := by
  unfold wpX_constant
  dsimp only
  refine il_bad0 hm ?_
  refine br_t rfl ?_
  exact il_appC hm (by omega) h1 h5 h6 (fun b1 b2 b3 b4 b7 hb => H b1 b2 b3 b4 b7 hb)
theorem il_refB {post : Int32 → St2 → Prop} {a1 a2 a3 a4 a5 a6 a7 a8 a9 a10 : Nat → Int32} {x y d : Int32} (h : x < 0 ∨ nI 6 ≤ x) (H : post (-1) (a1, a2, a3, a4, a5, a6, a7, a8, a9, a10)) : wpX_reference post (a1, a2, a3, a4, a5, a6, a7, a8, a9, a10) x y d := by
  unfold wpX_reference
  dsimp only
  refine il_bad1 h ?_
  exact br_f (by decide) H
theorem il_refN {post : Int32 → St2 → Prop} {a1 a2 a3 a4 a5 a6 a7 a8 a9 a10 : Nat → Int32} {m : Nat} {y d : Int32} (hm : m < 6) (h : y < 0 ∨ nI 10 ≤ y) (H : post (-1) (a1, a2, a3, a4, a5, a6, a7, a8, a9, a10)) : wpX_reference post (a1, a2, a3, a4, a5, a6, a7, a8, a9, a10) (nI m) y d := by
  unfold wpX_reference
  dsimp only
  refine il_bad0 hm ?_
  refine br_t rfl ?_
  refine il_nam1 h ?_
  exact br_f (by decide) H
theorem il_refA {post : Int32 → St2 → Prop} {a1 a2 a3 a4 a5 a6 a7 a8 a9 a10 : Nat → Int32} {m s : Nat} {d : Int32} (hm : m < 6) (hs : s < 10) (h : d < (-100) ∨ ¬ d ≤ 100) (H : post (-1) (a1, a2, a3, a4, a5, a6, a7, a8, a9, a10)) : wpX_reference post (a1, a2, a3, a4, a5, a6, a7, a8, a9, a10) (nI m) (nI s) d := by
  unfold wpX_reference
  dsimp only
  refine il_bad0 hm ?_
  refine br_t rfl ?_
  refine il_nam0 hs ?_
  refine br_t rfl ?_
  exact br_c (fun _ => H) (fun z => br_f (fun z' => h.elim (fun g => z g) (fun g => g z')) H)
theorem il_ref {post : Int32 → St2 → Prop} {a1 a2 a3 a4 a5 a6 a7 a8 a9 a10 : Nat → Int32} {m s : Nat} {d : Int32} (hm : m < 6) (hs : s < 10) (hd : ¬ d < (-100)) (hd' : d ≤ 100) (h1 : il_S m 1 a1) (h5 : il_N 60 a5) (h6 : il_N 10 a6) (h8 : il_N 10 a8) (H : ∀ b1 b2 b3 b4 b7 b8 b9 b10, il_S m 2 b1 → b2 1 = -1 → b3 1 = nI s → b4 1 = d → b8 s = nI 1 → b9 1 = -4 → post (nI 2) (b1, b2, b3, b4, a5, a6, b7, b8, b9, b10)) : wpX_reference post (a1, a2, a3, a4, a5, a6, a7, a8, a9, a10) (nI m) (nI s) d := by
  unfold wpX_reference
  dsimp only
  refine il_bad0 hm ?_
  refine br_t rfl ?_
  refine il_nam0 hs ?_
  refine br_t rfl ?_
  refine br_f hd (br_t hd' ?_)
  exact il_appR hm (by omega) hs h1 h5 h6 h8 (fun b1 b2 b3 b4 b7 b8 b9 b10 k1 k2 k3 k4 k8 k9 => H b1 b2 b3 b4 b7 b8 b9 b10 k1 k2 k3 k4 k8 k9)
/-! define -/
theorem il_defB {post : Int32 → St2 → Prop} {a1 a2 a3 a4 a5 a6 a7 a8 a9 a10 : Nat → Int32} {x y w : Int32} (h : x < 0 ∨ nI 6 ≤ x) (H : post (-1) (a1, a2, a3, a4, a5, a6, a7, a8, a9, a10)) : wpX_define post (a1, a2, a3, a4, a5, a6, a7, a8, a9, a10) x y w := by
  unfold wpX_define
  dsimp only
  refine il_bad1 h ?_
  exact br_f (by decide) H
theorem il_defN {post : Int32 → St2 → Prop} {a1 a2 a3 a4 a5 a6 a7 a8 a9 a10 : Nat → Int32} {m : Nat} {y w : Int32} (hm : m < 6) (h : y < 0 ∨ nI 10 ≤ y) (H : post (-1) (a1, a2, a3, a4, a5, a6, a7, a8, a9, a10)) : wpX_define post (a1, a2, a3, a4, a5, a6, a7, a8, a9, a10) (nI m) y w := by
  unfold wpX_define
  dsimp only
  refine il_bad0 hm ?_
  refine br_t rfl ?_
  refine il_nam1 h ?_
  exact br_f (by decide) H
theorem il_defW {post : Int32 → St2 → Prop} {a1 a2 a3 a4 a5 a6 a7 a8 a9 a10 : Nat → Int32} {m c s : Nat} {w : Int32} (hm : m < 6) (hs : s < 10) (h1 : il_S m c a1) (h : w < 0 ∨ ¬ w ≤ nI c) (H : post (-4) (a1, a2, a3, a4, a5, a6, a7, a8, a9, a10)) : wpX_define post (a1, a2, a3, a4, a5, a6, a7, a8, a9, a10) (nI m) (nI s) w := by
  unfold wpX_define
  dsimp only
  refine il_bad0 hm ?_
  refine br_t rfl ?_
  refine il_nam0 hs ?_
  refine br_t rfl ?_
  refine br_c (fun _ => H) (fun z => ?_)
  refine il_words hm h1 ?_
  exact br_f (fun z' => h.elim (fun g => z g) (fun g => g z')) H
theorem il_def {post : Int32 → St2 → Prop} {a1 a2 a3 a4 a5 a6 a7 a8 a9 a10 : Nat → Int32} {m c s w : Nat} (hm : m < 6) (hs : s < 10) (hc : c ≤ 2) (hw : w ≤ c) (h1 : il_S m c a1) (h5 : il_N 60 a5) (h6 : il_N 10 a6)
    (h8 : a8 s = -4 ∨ (a8 s = nI 1 ∧ a9 1 = -4 ∧ a3 1 = nI s))
    (H : ∀ b2 b5 b6 b7, b6 s = nI w → (a8 s = nI 1 → b2 1 = nI w + a4 1) → post 0 (a1, b2, a3, a4, b5, b6, b7, a8, a9, a10)) : wpX_define post (a1, a2, a3, a4, a5, a6, a7, a8, a9, a10) (nI m) (nI s) (nI w) := by
  unfold wpX_define
  dsimp only
  refine il_bad0 hm ?_
  refine br_t rfl ?_
  refine il_nam0 hs ?_
  refine br_t rfl ?_
  refine br_f (nI_pos (by omega)) ?_
  refine il_words hm h1 ?_
  refine br_t (nI_le hw (by omega)) ?_
  have e : nI m * 10 + nI s = nI (m * 10 + s) := il_ix m s
  have ec : (nI m * 10 + nI s).toNatClampNeg = m * 10 + s := by rw [e]; exact nI_clamp (by omega)
  refine ⟨pk_in (m * 10 + s) 60 (by omega) e, br_t (by rw [ec, h5 _ (by omega)]; exact il_neg) ?_⟩
  refine ⟨pk_in (m * 10 + s) 60 (by omega) e, nm_e ?_⟩
  rw [ec]
  refine il_rfB hm hs (by omega) (h1.1 m (Nat.le_refl m)) pk_us (fun j hj hn => ?_) h6 h8 (fun b2 b6 b7 k6 k2 => ?_)
  · rw [pk_un hn]
    exact h5 j hj
  · exact H b2 _ b6 b7 k6 k2
/-! where, value -/
theorem il_wheB {post : Int32 → Prop} {a1 a2 a3 a4 a5 a6 a7 a8 a9 a10 : Nat → Int32} {y : Int32} (h : y < 0 ∨ nI 10 ≤ y) (H : post (-4)) : wpX_where post (a1, a2, a3, a4, a5, a6, a7, a8, a9, a10) y := by
  unfold wpX_where
  dsimp only
  refine il_nam1 h ?_
  exact br_f (by decide) H
theorem il_whe {post : Int32 → Prop} {a1 a2 a3 a4 a5 a6 a7 a8 a9 a10 : Nat → Int32} {s : Nat} {z : Int32} (hs : s < 10) (h : a6 s = z) (H : post z) : wpX_where post (a1, a2, a3, a4, a5, a6, a7, a8, a9, a10) (nI s) := by
  unfold wpX_where
  dsimp only
  refine il_nam0 hs ?_
  refine br_t rfl ⟨pk_in s 10 hs, ?_⟩
  rw [nI_clamp (by omega), h]
  exact H
theorem il_val0 {post : Int32 → Prop} {a1 a2 a3 a4 a5 a6 a7 a8 a9 a10 : Nat → Int32} (h : ¬ 1 < a1 6) (H : post 0) : wpX_value post (a1, a2, a3, a4, a5, a6, a7, a8, a9, a10) 1 :=
  br_f (by decide) (br_f h H)
theorem il_val1 {post : Int32 → Prop} {a1 a2 a3 a4 a5 a6 a7 a8 a9 a10 : Nat → Int32} {z : Int32} (h : 1 < a1 6) (h2 : a2 1 = z) (H : post z) : wpX_value post (a1, a2, a3, a4, a5, a6, a7, a8, a9, a10) 1 := by
  refine br_f (by decide) (br_t h ⟨pk_in 1 48 (by omega), ?_⟩)
  rw [show (1 : Int32).toNatClampNeg = 1 by decide, h2]
  exact H
end
section
/-! the law's own checks, by the flags (in the module's range, in the names' range, refers, set) -/
theorem il_t0 {post : Int32 → St0 → Prop} {mc ms kc ks : Nat} {x3 x4 x13 x15 : Int32} (H : post 1 ()) : wL_lawOf_174 post mc ms x3 x4 (-1) (-1) (-1) (-4) 0 x15 0 x13 0 x15 0 kc ks :=
  br_t rfl (br_t rfl (br_t rfl (br_t rfl (br_t rfl (br_t rfl (br_t rfl (br_t rfl (br_t rfl (br_t rfl (br_t rfl H))))))))))
theorem il_t1 {post : Int32 → St0 → Prop} {mc ms kc ks : Nat} {x3 x4 x15 : Int32} (H : post 1 ()) : wL_lawOf_174 post mc ms x3 x4 1 (-1) (-1) (-4) 0 x15 1 0 0 x15 0 kc ks :=
  br_f (by decide) (br_t rfl (br_t rfl (br_t rfl (br_f (by decide) (br_t rfl (br_t rfl (br_t rfl (br_t rfl (br_t rfl (br_t rfl (br_t rfl H)))))))))))
theorem il_t2 {post : Int32 → St0 → Prop} {mc ms kc ks : Nat} {x3 x4 x15 : Int32} (H : post 1 ()) : wL_lawOf_174 post mc ms x3 x4 1 (-1) (-4) (-4) 0 x15 1 1 0 x15 0 kc ks :=
  br_f (by decide) (br_t rfl (br_t rfl (br_t rfl (br_f (by decide) (br_f (by decide) (br_t rfl (br_t rfl (br_t rfl (br_t rfl (br_t rfl (br_t rfl (br_t rfl H))))))))))))
theorem il_t3 {post : Int32 → St0 → Prop} {mc ms kc ks : Nat} {x3 x4 x15 : Int32} (H : post 1 ()) : wL_lawOf_174 post mc ms x3 x4 1 (-1) 0 x4 0 x15 1 1 0 x15 1 kc ks :=
  br_f (by decide) (br_t rfl (br_t rfl (br_t rfl (br_f (by decide) (br_f (by decide) (br_f (by decide) (br_t rfl (br_f (by decide) (br_t rfl (br_t rfl (br_t rfl (br_t rfl H))))))))))))
theorem il_t4 {post : Int32 → St0 → Prop} {mc ms kc ks : Nat} {x3 x4 x15 : Int32} (H : post 1 ()) : wL_lawOf_174 post mc ms x3 x4 1 2 (-4) (-4) (-1) x15 1 1 1 x15 0 kc ks :=
  br_f (by decide) (br_t rfl (br_f (by decide) (br_t rfl (br_f (by decide) (br_f (by decide) (br_t rfl (br_t rfl (br_t rfl (br_t rfl (br_f (by decide) (br_t rfl (br_t rfl (br_t rfl H)))))))))))))
theorem il_t5 {post : Int32 → St0 → Prop} {mc ms kc ks : Nat} {x3 x4 x15 : Int32} (H : post 1 ()) : wL_lawOf_174 post mc ms x3 x4 1 2 0 x4 (x4 + x3) x15 1 1 1 x15 1 kc ks :=
  br_f (by decide) (br_t rfl (br_f (by decide) (br_t rfl (br_f (by decide) (br_f (by decide) (br_f (by decide) (br_t rfl (br_f (by decide) (br_t rfl (br_f (by decide) (br_f (by decide) (br_t rfl (br_t rfl H)))))))))))))
/-- no module -/
theorem il_u0 {post : Int32 → St0 → Prop} {mc ms kc ks : Nat} {x3 x4 x13 : Int32} (H : post 1 ()) : wL_lawOf_93 post mc ms x3 x4 (-1) (-1) (-1) (-4) 0 0 0 x13 kc ks :=
  br_t rfl (br_t rfl (br_t rfl (nm_r (e' := 0) (by decide) (br_t rfl (il_t0 H)))))
/-- no name -/
theorem il_u1 {post : Int32 → St0 → Prop} {mc ms kc ks : Nat} {x3 x4 : Int32} (H : post 1 ()) : wL_lawOf_93 post mc ms x3 x4 1 (-1) (-1) (-4) 0 1 1 0 kc ks :=
  br_f (by decide) (br_t rfl (br_f (by decide) (br_t rfl (nm_r (e' := 1) (by decide) (br_f (by decide) (br_t rfl (il_t1 H)))))))
/-- no reference, not set -/
theorem il_u2 {post : Int32 → St0 → Prop} {mc ms kc ks : Nat} {x3 x4 : Int32} (h : x4 < 0 ∨ 1 < x4) (H : post 1 ()) : wL_lawOf_122 post mc ms x3 x4 1 (-1) (-4) (-4) 0 1 1 1 0 kc ks :=
  br_f (by decide) (br_t rfl (nm_r (e' := 1) (by decide) (br_f (by decide) (br_f (by decide) (br_c (fun _ => il_t2 H) (fun z => br_t (h.elim (fun g => absurd g z) (fun g => g)) (il_t2 H)))))))
/-- no reference, set -/
theorem il_u3 {post : Int32 → St0 → Prop} {mc ms kc ks : Nat} {x3 x4 : Int32} (h : ¬ x4 < 0) (h' : ¬ 1 < x4) (H : post 1 ()) : wL_lawOf_122 post mc ms x3 x4 1 (-1) 0 x4 0 1 1 1 0 kc ks :=
  br_f (by decide) (br_t rfl (nm_r (e' := 1) (by decide) (br_f (by decide) (br_f (by decide) (br_f h (br_f h' (il_t3 H)))))))
/-- a reference, not set -/
theorem il_u4 {post : Int32 → St0 → Prop} {mc ms kc ks : Nat} {x3 x4 : Int32} (h : x4 < 0 ∨ 2 < x4) (H : post 1 ()) : wL_lawOf_122 post mc ms x3 x4 1 2 (-4) (-4) (-1) 2 1 1 1 kc ks :=
  br_f (by decide) (br_f (by decide) (nm_r (e' := 2) (by decide) (br_f (by decide) (br_f (by decide) (br_c (fun _ => il_t4 H) (fun z => br_t (h.elim (fun g => absurd g z) (fun g => g)) (il_t4 H)))))))
/-- a reference, set -/
theorem il_u5 {post : Int32 → St0 → Prop} {mc ms kc ks : Nat} {x3 x4 : Int32} (h : ¬ x4 < 0) (h' : ¬ 2 < x4) (H : post 1 ()) : wL_lawOf_122 post mc ms x3 x4 1 2 0 x4 (x4 + x3) 2 1 1 1 kc ks :=
  br_f (by decide) (br_f (by decide) (nm_r (e' := 2) (by decide) (br_f (by decide) (br_f (by decide) (br_f h (br_f h' (il_t5 H)))))))
/-- from the name's check on -/
theorem il_v0 {post : Int32 → St0 → Prop} {mc ms kc ks : Nat} {x2 x3 x4 : Int32} (H : post 1 ()) : wL_lawOf_76 post mc ms x2 x3 x4 (-1) (-1) (-1) (-4) 0 0 0 kc ks :=
  br_c (fun _ => il_u0 H) (fun _ => br_c (fun _ => il_u0 H) (fun _ => il_u0 H))
theorem il_v1 {post : Int32 → St0 → Prop} {mc ms kc ks : Nat} {x2 x3 x4 : Int32} (h : x2 < 0 ∨ nI 10 ≤ x2) (H : post 1 ()) : wL_lawOf_76 post mc ms x2 x3 x4 1 (-1) (-1) (-4) 0 1 1 kc ks :=
  br_c (fun _ => il_u1 H) (fun z => br_t (h.elim (fun g => absurd g z) (fun g => (il_hi (k := 9) (by decide) g).2.1)) (il_u1 H))
theorem il_v2 {post : Int32 → St0 → Prop} {mc ms kc ks : Nat} {s : Nat} {x3 x4 x6 x7 x8 x9 x10 x11 : Int32} (hs : s < 10) (h : x3 < (-100) ∨ 100 < x3) (H : wL_lawOf_122 post mc ms x3 x4 x6 x7 x8 x9 x10 x11 1 1 0 kc ks) : wL_lawOf_76 post mc ms (nI s) x3 x4 x6 x7 x8 x9 x10 x11 1 kc ks :=
  br_f (nI_pos (by omega)) (br_f (nI_nlt (b := s) (a := 9) (by omega) (by decide)) (br_f (by decide) (br_f (by decide) (br_c (fun _ => H) (fun z => br_t (h.elim (fun g => absurd g z) (fun g => g)) H)))))
theorem il_v3 {post : Int32 → St0 → Prop} {mc ms kc ks : Nat} {s : Nat} {x3 x4 x6 x7 x8 x9 x10 x11 : Int32} (hs : s < 10) (h : ¬ x3 < (-100)) (h' : ¬ 100 < x3) (H : wL_lawOf_122 post mc ms x3 x4 x6 x7 x8 x9 x10 x11 1 1 1 kc ks) : wL_lawOf_76 post mc ms (nI s) x3 x4 x6 x7 x8 x9 x10 x11 1 kc ks :=
  br_f (nI_pos (by omega)) (br_f (nI_nlt (b := s) (a := 9) (by omega) (by decide)) (br_f (by decide) (br_f (by decide) (br_f h (br_f h' H)))))
end
section
theorem il_S0 (m : Nat) : il_S m 0 (fun _ => 0) := ⟨fun _ _ => rfl, fun _ _ _ => rfl⟩
theorem il_S6 {m c : Nat} {a : Nat → Int32} (hm : m < 6) (h : il_S m c a) : a 6 = nI c := h.2 6 hm (Nat.le_refl 6)
/-- the state is whatever the calls left: the questions and the checks where the module is out of range -/
theorem il_bM {m v y d w : Int32} (h : m < 0 ∨ nI 6 ≤ m) : wpL_lawOf (fun r _ => r = 1) 11 347 () m v y d w := by
  refine ⟨by omega, by omega, 10, 337, by omega, by omega, ?_⟩
  refine il_init (by omega) (by omega) (fun c3 c5 c6 c7 c8 h3 h5 h6 h7 h8 => ?_)
  refine il_conB h ?_
  refine il_refB h ?_
  refine il_defB h ?_
  have T : ∀ r : Int32, r = -4 → wpX_value (fun r_133 => (wpX_size (fun r_134 => (((m < 0 → (wL_lawOf_75 (fun r _ => r = 1) 11 347 y d w (-1) (-1) (-1) r r_133 r_134 (1 + 10) (10 + 337))) ∧ (¬ m < 0 → (((5 < m → (wL_lawOf_75 (fun r _ => r = 1) 11 347 y d w (-1) (-1) (-1) r r_133 r_134 (1 + 10) (10 + 337))) ∧ (¬ 5 < m → (wL_lawOf_76 (fun r _ => r = 1) 11 347 y d w (-1) (-1) (-1) r r_133 r_134 1 (1 + 10) (10 + 337))))))))) ((fun _ => 0), (fun _ => 0), c3, (fun _ => 0), c5, c6, c7, c8, (fun _ => 0), (fun _ => 0)))) ((fun _ => 0), (fun _ => 0), c3, (fun _ => 0), c5, c6, c7, c8, (fun _ => 0), (fun _ => 0)) 1 := by
    intro r hr
    subst hr
    refine il_val0 (show ¬ (1 : Int32) < 0 by decide) ?_
    refine br_c (fun _ => il_v0 rfl) (fun z => br_t (h.elim (fun g => absurd g z) (fun g => (il_hi (k := 5) (by decide) g).2.1)) (il_v0 rfl))
  rcases pk_ix y (n := 10) (by omega) with g | g | ⟨s, hs, rfl⟩
  · exact il_wheB (Or.inl g) (T _ rfl)
  · exact il_wheB (Or.inr g) (T _ rfl)
  · exact il_whe hs (h6 s hs) (T _ rfl)
/-- where, value, size and the module's check, the module in range: what is left is the check of the answers -/
theorem il_ask {post : Int32 → Prop} {a1 a2 a3 a4 a5 a6 a7 a8 a9 a10 : Nat → Int32} {m : Nat} {z : Int32} (hm : m < 6) (h : a1 6 = z) (H : post z) : wpX_size post (a1, a2, a3, a4, a5, a6, a7, a8, a9, a10) := by
  subst h
  exact H
theorem il_mod {A B C : Prop} {m : Nat} (hm : m < 6) (H : C) : (nI m < 0 → A) ∧ (¬ nI m < 0 → ((5 < nI m → B) ∧ (¬ 5 < nI m → C))) :=
  br_f (nI_pos (by omega)) (br_f (nI_nlt (b := m) (a := 5) (by omega) (by decide)) H)
theorem il_1 : (1 : Int32) = nI 1 := rfl
theorem il_2 : (2 : Int32) = nI 2 := rfl
theorem il_gM {m : Nat} {v y d w : Int32} (hm : m < 6) : wpL_lawOf (fun r _ => r = 1) 11 347 () (nI m) v y d w := by
  refine ⟨by omega, by omega, 10, 337, by omega, by omega, ?_⟩
  refine il_init (by omega) (by omega) (fun c3 c5 c6 c7 c8 h3 h5 h6 h7 h8 => ?_)
  refine il_con hm (il_S0 m) h5 h6 (fun b1 b2 b3 b4 b7 k1 => ?_)
  have k6 : b1 6 = 1 := il_S6 hm k1
  have nv : ¬ 1 < b1 6 := by rw [k6]; decide
  by_cases hy : y < 0 ∨ nI 10 ≤ y
  · refine il_refN hm hy ?_
    refine il_defN hm hy ?_
    refine il_wheB hy ?_
    refine il_val0 nv ?_
    refine il_ask hm k6 ?_
    exact il_mod hm (il_v1 hy rfl)
  · obtain ⟨s, hs, rfl⟩ : ∃ s, s < 10 ∧ y = nI s := by
      rcases pk_ix y (n := 10) (by omega) with g | g | g
      · exact absurd (Or.inl g) hy
      · exact absurd (Or.inr g) hy
      · exact g
    by_cases hd : d < (-100) ∨ ¬ d ≤ 100
    · have hd' : d < (-100) ∨ 100 < d := hd.elim Or.inl (fun g => Or.inr (Int32.not_le.mp g))
      refine il_refA hm hs hd ?_
      by_cases hw : w < 0 ∨ ¬ w ≤ nI 1
      · have hw' : w < 0 ∨ 1 < w := hw.elim Or.inl (fun g => Or.inr (Int32.not_le.mp g))
        refine il_defW hm hs k1 hw ?_
        refine il_whe hs (h6 s hs) ?_
        refine il_val0 nv ?_
        refine il_ask hm k6 ?_
        exact il_mod hm (il_v2 hs hd' (il_u2 hw' rfl))
      · have w0 : ¬ w < 0 := fun g => hw (Or.inl g)
        have w1 : w ≤ nI 1 := Classical.byContradiction (fun g => hw (Or.inr g))
        have w2 : ¬ 1 < w := Int32.not_lt.mpr w1
        obtain ⟨j, hj, rfl⟩ := nI_of2 (n := 1) (nI_toInt (by omega)) w0 w1
        refine il_def hm hs (by omega) hj k1 h5 h6 (Or.inl (h8 s hs)) (fun e2 e5 e6 e7 g6 _ => ?_)
        refine il_whe hs g6 ?_
        refine il_val0 nv ?_
        refine il_ask hm k6 ?_
        exact il_mod hm (il_v2 hs hd' (il_u3 w0 w2 rfl))
    · have d0 : ¬ d < (-100) := fun g => hd (Or.inl g)
      have d1 : d ≤ 100 := Classical.byContradiction (fun g => hd (Or.inr g))
      have d2 : ¬ 100 < d := Int32.not_lt.mpr d1
      refine il_ref hm hs d0 d1 k1 h5 h6 h8 (fun f1 f2 f3 f4 f7 f8 f9 f10 q1 q2 q3 q4 q8 q9 => ?_)
      have q6 : f1 6 = 2 := il_S6 hm q1
      have yv : 1 < f1 6 := by rw [q6]; decide
      by_cases hw : w < 0 ∨ ¬ w ≤ nI 2
      · have hw' : w < 0 ∨ 2 < w := hw.elim Or.inl (fun g => Or.inr (Int32.not_le.mp g))
        refine il_defW hm hs q1 hw ?_
        refine il_whe hs (h6 s hs) ?_
        refine il_val1 yv q2 ?_
        refine il_ask hm q6 ?_
        exact il_mod hm (il_v3 hs d0 d2 (il_u4 hw' rfl))
      · have w0 : ¬ w < 0 := fun g => hw (Or.inl g)
        have w1 : w ≤ nI 2 := Classical.byContradiction (fun g => hw (Or.inr g))
        have w2 : ¬ 2 < w := Int32.not_lt.mpr w1
        obtain ⟨j, hj, rfl⟩ := nI_of2 (n := 2) (nI_toInt (by omega)) w0 w1
        refine il_def hm hs (by omega) hj q1 h5 h6 (Or.inr ⟨q8, q9, q3⟩) (fun e2 e5 e6 e7 g6 g2 => ?_)
        refine il_whe hs g6 ?_
        refine il_val1 yv ((g2 q8).trans (by rw [q4])) ?_
        refine il_ask hm q6 ?_
        exact il_mod hm (il_v3 hs d0 d2 (il_u5 w0 w2 rfl))
theorem il_lawOf (m v y d w : Int32) : wpL_lawOf (fun r _ => r = 1) 11 347 () m v y d w := by
  rcases pk_ix m (n := 6) (by omega) with g | g | ⟨k, hk, rfl⟩
  · exact il_bM (Or.inl g)
  · exact il_bM (Or.inr g)
  · exact il_gM hk
theorem il_cell {post : Int32 → Prop} {L : Nat} {xs : Nat → Int32} {x : Int32} (k : Nat) (hL : L ≤ 5) (hk : k < 5) (hx : x = nI k) (H : ∀ r, post r) : wpL_cellAt post L xs () x :=
  pk_le L k (fun _ => H 0) (fun z => ⟨pk_in k L z hx, H _⟩) rfl hx
theorem i_vc (xs : Nat → Int32) (L : Nat) (hL : L ≤ 5) : wpL_law (fun r => r = 1) L xs :=
  il_cell 0 hL (by omega) rfl (fun r1 => il_cell 1 hL (by omega) rfl (fun r2 => il_cell 2 hL (by omega) rfl (fun r3 => il_cell 3 hL (by omega) rfl (fun r4 => il_cell 4 hL (by omega) rfl (fun r5 => ⟨11, 347, by omega, by omega, il_lawOf r1 r2 r3 r4 r5⟩)))))
end
