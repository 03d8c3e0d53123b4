section
/-! small facts about ints and stores -/
theorem cd_nle {a b : Int32} (h : ¬ a ≤ b) : b < a := by
  rw [Int32.le_iff_toInt_le] at h
  rw [Int32.lt_iff_toInt_lt]
  omega
theorem cd_nlt {a b : Int32} (h : ¬ a < b) : b ≤ a := by
  rw [Int32.lt_iff_toInt_lt] at h
  rw [Int32.le_iff_toInt_le]
  omega
theorem cd_ngt {a b : Int32} (h : a ≤ b) : ¬ b < a := by
  rw [Int32.le_iff_toInt_le] at h
  rw [Int32.lt_iff_toInt_lt]
  omega
theorem cd_lle {a b : Int32} (h : a < b) : a ≤ b := by
  rw [Int32.lt_iff_toInt_lt] at h
  rw [Int32.le_iff_toInt_le]
  omega
theorem cd_idx (m j : Nat) : nI m * 4 + nI j = nI (m * 4 + j) := by
  rw [show (4 : Int32) = nI 4 from rfl, pk_mul, nI_add]
theorem cd_up {a : Nat → Int32} {x v : Int32} {k : Nat} (hx : x = nI k) (hk : k < 2 ^ 31) : upd a x.toNatClampNeg v = upd a k v := by
  rw [hx, nI_clamp hk]
theorem cd_at {a : Nat → Int32} {x v : Int32} {k : Nat} (hx : x = nI k) (hk : k < 2 ^ 31) (h : a k = v) : a x.toNatClampNeg = v := by
  rw [hx, nI_clamp hk, h]
theorem cd_sub1 (x : Int32) : x - 1 = x + (-1) := by
  first
    | exact Int32.sub_eq_add_neg x 1
    | grind
/-! the pictures -/
/-- the source holds σ letters (none, or the one letter c) -/
def cd_K (σ c : Nat) (a2 a3 a5 a10 : Nat → Int32) : Prop :=
  (σ = 0 ∧ ∀ j, j < 4 → a5 j = -1) ∨
  (σ = 1 ∧ c < 4 ∧ a2 0 = 0 ∧ a2 1 = nI 1 ∧ a3 1 = nI 0 ∧ a10 0 = nI c ∧ (∀ j, j < 4 → a5 j = if j = c then nI 1 else -1) ∧ (∀ j, j < 4 → a5 (4 + j) = -1))
/-- the int x is no letter (σ = 0), or the letter c (σ = 1) -/
def cd_B (x : Int32) (σ c : Nat) : Prop := (σ = 0 ∧ (x < 0 ∨ 3 < x)) ∨ (σ = 1 ∧ c < 4 ∧ x = nI c)
/-- the stretch of n letters from k is none (φ = 0), or one of ν letters (φ = 1) -/
def cd_F (σ : Nat) (k n : Int32) (φ ν : Nat) : Prop :=
  (φ = 0 ∧ ν = 0 ∧ (k < 0 ∨ n < 0 ∨ nI σ < k ∨ nI σ - k < n)) ∨
  (φ = 1 ∧ n = nI ν ∧ ν ≤ σ ∧ ¬ k < 0 ∧ ¬ n < 0 ∧ ¬ nI σ < k ∧ ¬ nI σ - k < n)
/-- the prices are none (γ = 0), or p and q (γ = 1) -/
def cd_G (x y : Int32) (γ p q : Nat) : Prop := (γ = 0 ∧ (x < 0 ∨ 100 < x ∨ y < 0 ∨ 100 < y)) ∨ (γ = 1 ∧ p ≤ 100 ∧ q ≤ 100 ∧ x = nI p ∧ y = nI q)
def cd_ans (σ : Nat) : Int32 := if σ = 0 then -1 else nI 1
def cd_hit (σ c l : Nat) : Nat := if σ = 1 ∧ l = c then 1 else 0
def cd_price (p q h : Nat) : Nat := if h = 1 ∧ p < q then p else q
def cd_sum (w : Nat → Nat) : Nat → Nat
  | 0 => 0
  | i + 1 => w i + cd_sum w i
theorem cd_hit_le (σ c l : Nat) : cd_hit σ c l ≤ 1 := by
  unfold cd_hit
  split <;> omega
theorem cd_price_le {p q : Nat} (hp : p ≤ 100) (hq : q ≤ 100) (h : Nat) : cd_price p q h ≤ 100 := by
  unfold cd_price
  split <;> omega
theorem cd_fill {s a : Nat → Int32} {m i : Nat} (h : (∀ j, j < i → s (m * 4 + j) = -1) ∧ ∀ j, j < m * 4 → s j = a j) :
    (∀ j, j < i + 1 → upd s (m * 4 + i) (-1) (m * 4 + j) = -1) ∧ ∀ j, j < m * 4 → upd s (m * 4 + i) (-1) j = a j := by
  refine ⟨fun j hj => ?_, fun j hj => ?_⟩
  · by_cases e : j = i
    · rw [e, pk_us]
    · rw [pk_un (by omega)]
      exact h.1 j (by omega)
  · rw [pk_un (by omega)]
    exact h.2 j hj
section
variable {fs ft fn fw fc fa : Int32} {a1 a2 a3 a4 a5 a6 a7 a8 a9 a10 : Nat → Int32}
theorem cd_new {post : Int32 → St2 → Prop} {p0 : Int32} {m : Nat} (hm : m < 65)
    (H : ∀ b5 : Nat → Int32, (∀ j, j < 4 → b5 (m * 4 + j) = -1) → (∀ j, j < m * 4 → b5 j = a5 j) → post (nI m) (fs, ft, nI (m + 1), fw, 0, fa, a1, upd a2 m p0, a3, a4, b5, upd a6 m 0, a7, a8, a9, a10)) :
    wpX_newState post (fs, ft, nI m, fw, fc, fa, a1, a2, a3, a4, a5, a6, a7, a8, a9, a10) p0 := by
  refine nm_r (nI_1 m) ⟨pk_in m 65 hm, nm_r (cd_up rfl (by omega)) ⟨pk_in m 65 hm, nm_r (cd_up rfl (by omega)) ?_⟩⟩
  exact pk_loop (fun n i s => wX_newState_31 post (nI m) fs ft (nI (m + 1)) fw fc fa n (nI i) a1 (upd a2 m p0) a3 a4 s (upd a6 m 0) a7 a8 a9 a10)
    (fun i s => (∀ j, j < i → s (m * 4 + j) = -1) ∧ ∀ j, j < m * 4 → s j = a5 j) 4 0 a5 (by omega) ⟨fun j hj => absurd hj (by omega), fun _ _ => rfl⟩
    (fun n s h => pk_le 4 4 (fun _ => H s h.1 h.2) (fun z => absurd z (by omega)))
    (fun n i s hi h hw => pk_le 4 i (fun z => absurd z (by omega)) (fun _ => ⟨pk_in (m * 4 + i) 260 (by omega) (cd_idx m i), nm_r (cd_up (cd_idx m i) (by omega)) (nm_r (nI_1 i) (hw _ (cd_fill h)))⟩))
theorem cd_init {post : St2 → Prop} {mc ms : Nat} (hc : 10 ≤ mc) (hs : 731 ≤ ms)
    (H : ∀ b2 b3 b5 b6 : Nat → Int32, b2 0 = 0 → b3 0 = -1 → (∀ j, j < 4 → b5 j = -1) →
      post (nI 0, nI 0, nI 1, nI 0, 0, 0, (fun _ => 0), b2, b3, (fun _ => 0), b5, b6, (fun _ => 0), (fun _ => 0), (fun _ => 0), (fun _ => 0))) :
    wpX_init post mc ms (0, 0, 0, 0, 0, 0) := by
  unfold wpX_init
  dsimp only
  refine ⟨by omega, by omega, by omega, by omega, by omega, by omega, by omega, by omega, by omega, by omega, by omega, by omega, by omega, by omega, by omega, by omega, by omega, by omega, by omega, by omega, ?_⟩
  unfold wpX_reset
  dsimp only
  refine cd_new (m := 0) (by omega) (fun b5 h5 _ => ?_)
  dsimp only
  refine nm_e (H _ _ b5 _ pk_us pk_us (fun j hj => ?_))
  have h := h5 j hj
  rw [show 0 * 4 + j = j by omega] at h
  exact h
theorem cd_grow {post : St2 → Prop} {c : Nat} (hc : c < 4) (h2 : a2 0 = 0) (h3 : a3 0 = -1) (h5 : ∀ j, j < 4 → a5 j = -1)
    (H : ∀ b2 b3 b4 b5 b6 b10 : Nat → Int32, cd_K 1 c b2 b3 b5 b10 → post (nI 1, ft, nI (1 + 1), nI 1, 0, fa, a1, b2, b3, b4, b5, b6, a7, a8, a9, b10)) :
    wpX_grow post (nI 0, ft, nI 1, nI 0, fc, fa, a1, a2, a3, a4, a5, a6, a7, a8, a9, a10) (nI c) := by
  unfold wpX_grow
  dsimp only
  refine ⟨pk_in 0 65 (by omega), cd_new (m := 1) (by omega) (fun b5 h5a h5b => ?_)⟩
  dsimp only
  have i0 : nI 0 * 4 + nI c = nI c := by
    rw [cd_idx, show 0 * 4 + c = c by omega]
  have e5 : b5 (nI 0 * 4 + nI c).toNatClampNeg = -1 := cd_at i0 (by omega) (by rw [h5b c (by omega), h5 c hc])
  have e2 : a2 (nI 0).toNatClampNeg = 0 := cd_at (k := 0) rfl (by omega) h2
  refine ⟨pk_in 1 65 (by omega), nm_e ⟨pk_in 0 32 (by omega), nm_r (cd_up (k := 0) rfl (by omega)) (nm_r (nI_1 0) ⟨0 + 1 + 1, ?_⟩)⟩⟩
  refine br_f (by decide) (br_f (by decide) ⟨pk_in c 260 (by omega) i0, br_f (by rw [e5]; decide) ⟨pk_in c 260 (by omega) i0, nm_r (cd_up i0 (by omega)) ⟨pk_in 0 65 (by omega), nm_r (cd_at (k := 0) rfl (by omega) h3) (nm_r (nI_1 0) ?_)⟩⟩⟩)
  refine br_f (by decide) (br_t (by decide) (br_f (by decide) ⟨pk_in 1 65 (by omega), nm_r (cd_up (k := 1) rfl (by omega)) (H _ _ _ _ _ _ ?_)⟩))
  refine Or.inr ⟨rfl, hc, ?_, ?_, pk_us, pk_us, fun j hj => ?_, fun j hj => ?_⟩
  · rw [pk_un (by omega), h2]
  · rw [pk_us, e2]
    rfl
  · by_cases e : j = c
    · rw [if_pos e, e, pk_us]
    · rw [if_neg e, pk_un e, h5b j (by omega), h5 j hj]
  · rw [pk_un (by omega)]
    exact h5a j hj
theorem cd_bad {post : Int32 → Prop} {x : Int32} (H0 : x < 0 ∨ 3 < x → post 1) (H1 : ∀ c, c < 4 → x = nI c → post 0) :
    wpX_badLetter post (fs, ft, fn, fw, fc, fa, a1, a2, a3, a4, a5, a6, a7, a8, a9, a10) x := by
  refine br_c (fun h => H0 (.inl h)) (fun h => br_c (fun h' => ?_) (fun h' => H0 (.inr (cd_nle h'))))
  obtain ⟨c, hc, e⟩ := nI_of2 (M := 3) (n := 3) (by decide) h h'
  exact H1 c (by omega) e
theorem cd_source {post : Int32 → St2 → Prop} {x : Int32} (h2 : a2 0 = 0) (h3 : a3 0 = -1) (h5 : ∀ j, j < 4 → a5 j = -1)
    (H : ∀ (σ c : Nat) (w : Int32) (b2 b3 b4 b5 b6 b10 : Nat → Int32), cd_B x σ c → cd_K σ c b2 b3 b5 b10 → post (cd_ans σ) (nI σ, ft, nI (σ + 1), w, 0, fa, a1, b2, b3, b4, b5, b6, a7, a8, a9, b10)) :
    wpX_source post (nI 0, ft, nI 1, nI 0, 0, fa, a1, a2, a3, a4, a5, a6, a7, a8, a9, a10) x := by
  unfold wpX_source
  dsimp only
  refine cd_bad (fun h => br_f (by decide) (H 0 0 _ _ _ _ _ _ _ (.inl ⟨rfl, h⟩) (.inl ⟨rfl, h5⟩))) (fun c hc e => br_t rfl (br_f (by decide) ?_))
  rw [e]
  exact cd_grow hc h2 h3 h5 (fun b2 b3 b4 b5 b6 b10 K => H 1 c _ b2 b3 b4 b5 b6 b10 (.inr ⟨rfl, hc, e⟩) K)
theorem cd_target {post : Int32 → St2 → Prop} {x : Int32}
    (H : ∀ (τ e : Nat) (b1 : Nat → Int32), cd_B x τ e → (τ = 1 → b1 0 = nI e) → post (cd_ans τ) (fs, nI τ, fn, fw, fc, fa, b1, a2, a3, a4, a5, a6, a7, a8, a9, a10)) :
    wpX_target post (fs, nI 0, fn, fw, fc, fa, a1, a2, a3, a4, a5, a6, a7, a8, a9, a10) x := by
  unfold wpX_target
  dsimp only
  refine cd_bad (fun h => br_f (by decide) (H 0 0 a1 (.inl ⟨rfl, h⟩) (fun z => absurd z (by decide)))) (fun c hc e => br_t rfl (br_f (by decide) ⟨pk_in 0 24 (by omega), nm_r (cd_up (k := 0) rfl (by omega)) (nm_r (nI_1 0) (H 1 c _ (.inr ⟨rfl, hc, e⟩) (fun _ => ?_)))⟩))
  rw [pk_us, e]
theorem cd_quote {post : Int32 → St2 → Prop} {σ τ : Nat} {k n : Int32} (hσ : σ ≤ 1) (hτ : τ ≤ 1)
    (H : ∀ (φ ν : Nat) (b1 : Nat → Int32), cd_F σ k n φ ν → (∀ j, j < τ → b1 j = a1 j) → (ν = 1 → b1 τ = a10 0) → post (if φ = 0 then -1 else nI (τ + ν)) (nI σ, nI (τ + ν), fn, fw, fc, fa, b1, a2, a3, a4, a5, a6, a7, a8, a9, a10)) :
    wpX_quote post (nI σ, nI τ, fn, fw, fc, fa, a1, a2, a3, a4, a5, a6, a7, a8, a9, a10) k n := by
  have N : (k < 0 ∨ n < 0 ∨ nI σ < k ∨ nI σ - k < n) → post (-1) (nI σ, nI τ, fn, fw, fc, fa, a1, a2, a3, a4, a5, a6, a7, a8, a9, a10) :=
    fun h => H 0 0 a1 (.inl ⟨rfl, rfl, h⟩) (fun _ _ => rfl) (fun z => absurd z (by decide))
  refine br_c (fun h => N (.inl h)) (fun h1 => br_c (fun h => N (.inr (.inl h))) (fun h2 => br_c (fun h => N (.inr (.inr (.inl h)))) (fun h3 => br_c (fun h4 => ?_) (fun h => N (.inr (.inr (.inr (cd_nle h))))))))
  obtain ⟨κ, hκ, rfl⟩ := nI_of2 (M := nI σ) (n := σ) (nI_toInt (by omega)) h1 (cd_nlt h3)
  obtain ⟨ν, hν, rfl⟩ := nI_of h2
  have h4' : ν ≤ σ - κ := by
    rw [pk_sub hκ] at h4
    exact (nI_leI hν (by omega)).mp h4
  have F : cd_F σ (nI κ) (nI ν) 1 ν := .inr ⟨rfl, rfl, by omega, h1, h2, h3, cd_ngt h4⟩
  have it : nI τ + 0 = nI τ := nI_add τ 0
  refine pk_le (τ + ν) 24 (fun _ => ?_) (fun z => absurd z (by omega)) (nI_add τ ν)
  rcases (by omega : ν = 0 ∨ ν = 1 ∧ κ = 0) with e | ⟨e, e'⟩
  · subst e
    exact ⟨0 + 1, br_t (by decide) (nm_r (nI_add τ 0) (H 1 0 a1 F (fun _ _ => rfl) (fun z => absurd z (by decide))))⟩
  · subst e
    subst e'
    refine ⟨0 + 1 + 1, br_f (by decide) ⟨pk_in 0 32 (by omega) (nI_add 0 0), pk_in τ 24 (by omega) it, nm_r (cd_up it (by omega)) (nm_r (nI_1 0) (br_t (by decide) (nm_r (nI_add τ 1) (H 1 1 _ F (fun j hj => pk_un (by omega)) (fun _ => ?_)))))⟩⟩
    rw [pk_us]
    exact cd_at (nI_add 0 0) (by omega) rfl
theorem cd_longest {post : Int32 → St2 → Prop} {σ c T i : Nat} {l : Nat → Nat} (hT : T ≤ 24) (K : cd_K σ c a2 a3 a5 a10) (hl : ∀ j, j < T → l j < 4 ∧ a1 j = nI (l j)) (hi : i < T)
    (H : ∀ ga, post (nI (cd_hit σ c (l i))) (fs, nI T, fn, fw, fc, ga, a1, a2, a3, a4, a5, a6, a7, a8, a9, a10)) :
    wpX_longestFrom post (fs, nI T, fn, fw, fc, fa, a1, a2, a3, a4, a5, a6, a7, a8, a9, a10) (nI i) := by
  unfold wpX_longestFrom
  dsimp only
  obtain ⟨h4, h1⟩ := hl i hi
  have i0 : (0 : Int32) * 4 + a1 (nI i).toNatClampNeg = nI (l i) := by
    show nI 0 * 4 + a1 (nI i).toNatClampNeg = nI (l i)
    rw [nI_clamp (show i < 2 ^ 31 by omega), h1, cd_idx, show 0 * 4 + l i = l i by omega]
  by_cases hh : σ = 1 ∧ l i = c
  · have eh : cd_hit σ c (l i) = 1 := if_pos hh
    rw [eh] at H
    rcases K with ⟨k0, _⟩ | ⟨k1, kc, _, _, _, _, k5, k6⟩
    · omega
    have e5 : a5 ((0 : Int32) * 4 + a1 (nI i).toNatClampNeg).toNatClampNeg = nI 1 := cd_at i0 (by omega) (by rw [k5 _ h4, if_pos hh.2])
    refine ⟨0 + 1 + 1, pk_le T i (fun z => absurd z (by omega)) (fun _ => ⟨pk_in i 24 (by omega), pk_in (l i) 260 (by omega) i0, br_f (by rw [e5]; decide) ⟨pk_in i 24 (by omega), pk_in (l i) 260 (by omega) i0, nm_r e5 (nm_r (nI_1 0) (nm_r (nI_1 i) ?_))⟩⟩)⟩
    refine pk_le T (i + 1) (fun _ => H _) (fun z => ?_)
    obtain ⟨g4, g1⟩ := hl (i + 1) z
    have i1 : nI 1 * 4 + a1 (nI (i + 1)).toNatClampNeg = nI (4 + l (i + 1)) := by
      rw [nI_clamp (show i + 1 < 2 ^ 31 by omega), g1, cd_idx, show 1 * 4 + l (i + 1) = 4 + l (i + 1) by omega]
    have e6 : a5 (nI 1 * 4 + a1 (nI (i + 1)).toNatClampNeg).toNatClampNeg = -1 := cd_at i1 (by omega) (k6 _ g4)
    exact ⟨pk_in (i + 1) 24 (by omega), pk_in (4 + l (i + 1)) 260 (by omega) i1, br_t (by rw [e6]; decide) (H _)⟩
  · have eh : cd_hit σ c (l i) = 0 := if_neg hh
    rw [eh] at H
    have e5' : a5 (l i) = -1 := by
      rcases K with ⟨_, k5⟩ | ⟨k1, _, _, _, _, _, k5, _⟩
      · exact k5 _ h4
      · rw [k5 _ h4, if_neg (fun t => hh ⟨k1, t⟩)]
    have e5 : a5 ((0 : Int32) * 4 + a1 (nI i).toNatClampNeg).toNatClampNeg = -1 := cd_at i0 (by omega) e5'
    exact ⟨0 + 1, pk_le T i (fun z => absurd z (by omega)) (fun _ => ⟨pk_in i 24 (by omega), pk_in (l i) 260 (by omega) i0, br_t (by rw [e5]; decide) (H _)⟩)⟩
theorem cd_inner {post : Int32 → St2 → Prop} {J : Int32 → Int32 → Int32 → Int32 → Int32 → Int32 → Int32 → (Nat → Int32) → (Nat → Int32) → (Nat → Int32) → (Nat → Int32) → (Nat → Int32) → (Nat → Int32) → (Nat → Int32) → (Nat → Int32) → (Nat → Int32) → (Nat → Int32) → Prop}
    {p q i h m : Nat} (hh : h ≤ 1) (hi : i < 24) (h9 : a9 (i + 1) = nI m) (hm : m ≤ 10000) (hp : p ≤ 100) (hq : q ≤ 100)
    (H : J (nI i + (-1)) fs ft fn fw fc fa a1 a2 a3 a4 a5 a6 a7 a8 (upd a9 i (nI (m + cd_price p q h))) a10) :
    ∃ n, wX_cheapest_65 post J (nI p) (nI q) (nI i) (nI h) fs ft fn fw fc fa a1 a2 a3 a4 a5 a6 a7 a8 a9 a10 n (nI (m + q)) 1 := by
  rcases (by omega : h = 0 ∨ h = 1) with e | e
  · subst e
    rw [show cd_price p q 0 = q from if_neg (fun t => absurd t.1 (by decide))] at H
    exact ⟨0 + 1, br_t (by decide) ⟨pk_in i 25 (by omega), nm_r (cd_up rfl (by omega)) (nm_e H)⟩⟩
  · subst e
    have e7 : a9 (nI i + 1).toNatClampNeg + nI p = nI (m + p) := by
      rw [cd_at (nI_1 i) (by omega) h9, nI_add]
    refine ⟨0 + 1 + 1, br_f (by decide) ⟨pk_in (i + 1) 25 (by omega) (nI_1 i), nm_r e7 (pk_le (m + q) (m + p) (fun z => nm_r (nI_1 1) ?_) (fun z => nm_r (nI_1 1) ?_))⟩⟩
    · rw [show cd_price p q 1 = q from if_neg (fun t => absurd t.2 (by omega))] at H
      exact br_t (by decide) ⟨pk_in i 25 (by omega), nm_r (cd_up rfl (by omega)) (nm_e H)⟩
    · rw [show cd_price p q 1 = p from if_pos ⟨rfl, by omega⟩] at H
      exact br_t (by decide) ⟨pk_in i 25 (by omega), nm_r (cd_up rfl (by omega)) (nm_e H)⟩
theorem cd_step {post : Int32 → St2 → Prop} {σ c T i m p q n : Nat} {l : Nat → Nat} (hT : T ≤ 24) (K : cd_K σ c a2 a3 a5 a10) (hl : ∀ j, j < T → l j < 4 ∧ a1 j = nI (l j)) (hi : i < T)
    (h9 : a9 (i + 1) = nI m) (hm : m ≤ 10000) (hp : p ≤ 100) (hq : q ≤ 100)
    (H : ∀ ga, wX_cheapest_39 post (nI p) (nI q) n (nI i + (-1)) fs (nI T) fn fw fc ga a1 a2 a3 a4 a5 a6 a7 a8 (upd a9 i (nI (m + cd_price p q (cd_hit σ c (l i))))) a10) :
    wX_cheapest_39 post (nI p) (nI q) (n + 1) (nI i) fs (nI T) fn fw fc fa a1 a2 a3 a4 a5 a6 a7 a8 a9 a10 := by
  have e4 : a9 (nI i + 1).toNatClampNeg + nI q = nI (m + q) := by
    rw [cd_at (nI_1 i) (by omega) h9, nI_add]
  exact br_f (nI_pos (by omega)) ⟨pk_in (i + 1) 25 (by omega) (nI_1 i), nm_r e4 (cd_longest hT K hl hi (fun ga => cd_inner (cd_hit_le _ _ _) (by omega) h9 hm hp hq (H ga)))⟩
theorem cd_down {post : Int32 → St2 → Prop} {σ c T p q : Nat} {l : Nat → Nat} (hT : T ≤ 24) (K : cd_K σ c a2 a3 a5 a10) (hl : ∀ j, j < T → l j < 4 ∧ a1 j = nI (l j)) (hp : p ≤ 100) (hq : q ≤ 100) :
    ∀ i, i ≤ T → ∀ (ha : Int32) (b9 : Nat → Int32) (m : Nat), b9 i = nI m → m + 100 * i ≤ 10000 →
      (∀ ga c9, post (nI (m + cd_sum (fun j => cd_price p q (cd_hit σ c (l j))) i)) (fs, nI T, fn, fw, fc, ga, a1, a2, a3, a4, a5, a6, a7, a8, c9, a10)) →
      wX_cheapest_39 post (nI p) (nI q) (i + 1) (nI i + (-1)) fs (nI T) fn fw fc ha a1 a2 a3 a4 a5 a6 a7 a8 b9 a10 := by
  intro i
  induction i with
  | zero =>
    intro _ ha b9 m h9 _ H
    exact br_t (by decide) (by rw [h9]; exact H _ _)
  | succ i ih =>
    intro hi ha b9 m h9 hm H
    have hw := cd_price_le hp hq (cd_hit σ c (l i))
    rw [pk_m1]
    refine cd_step hT K hl (by omega) h9 (by omega) hp hq (fun ga => ih (by omega) ga _ (m + cd_price p q (cd_hit σ c (l i))) pk_us (by omega) (fun ga' c9 => ?_))
    rw [Nat.add_assoc]
    exact H ga' c9
theorem cd_cheap {post : Int32 → St2 → Prop} {σ c T : Nat} {l : Nat → Nat} {x y : Int32} (hT : T ≤ 24) (K : cd_K σ c a2 a3 a5 a10) (hl : ∀ j, j < T → l j < 4 ∧ a1 j = nI (l j))
    (H : ∀ (γ p q : Nat) (ga : Int32) (c9 : Nat → Int32), cd_G x y γ p q → post (if γ = 0 then -1 else nI (cd_sum (fun j => cd_price p q (cd_hit σ c (l j))) T)) (fs, nI T, fn, fw, fc, ga, a1, a2, a3, a4, a5, a6, a7, a8, c9, a10)) :
    wpX_cheapest post (fs, nI T, fn, fw, fc, fa, a1, a2, a3, a4, a5, a6, a7, a8, a9, a10) x y := by
  have N : (x < 0 ∨ 100 < x ∨ y < 0 ∨ 100 < y) → post (-1) (fs, nI T, fn, fw, fc, fa, a1, a2, a3, a4, a5, a6, a7, a8, a9, a10) :=
    fun h => H 0 0 0 fa a9 (.inl ⟨rfl, h⟩)
  refine br_c (fun h => N (.inl h)) (fun h1 => br_c (fun h => N (.inr (.inl h))) (fun h2 => br_c (fun h => N (.inr (.inr (.inl h)))) (fun h3 => br_c (fun h4 => ?_) (fun h => N (.inr (.inr (.inr (cd_nle h))))))))
  obtain ⟨p, hp, rfl⟩ := nI_of2 (M := 100) (n := 100) (by decide) h1 (cd_nlt h2)
  obtain ⟨q, hq, rfl⟩ := nI_of2 (M := 100) (n := 100) (by decide) h3 h4
  refine ⟨pk_in T 25 (by omega), nm_r (cd_up rfl (by omega)) (nm_r (cd_sub1 (nI T)) ⟨T + 1, cd_down hT K hl hp hq T (Nat.le_refl T) _ _ 0 pk_us (by omega) (fun ga c9 => ?_)⟩)⟩
  rw [Nat.zero_add]
  exact H 1 p q ga c9 (.inr ⟨rfl, hp, hq, rfl, rfl⟩)
theorem cd_words {post : Int32 → Prop} {σ c : Nat} {k : Int32} (K : cd_K σ c a2 a3 a5 a10) (H : ∀ r : Int32, (σ = 1 ∧ k = 1 → r = 1) → (¬ (σ = 1 ∧ k = 1) → r = 0) → post r) :
    wpX_wordsOf post (fs, ft, nI (σ + 1), fw, fc, fa, a1, a2, a3, a4, a5, a6, a7, a8, a9, a10) k := by
  unfold wpX_wordsOf
  dsimp only
  rcases K with ⟨e, _⟩ | ⟨e, _, k20, k21, k3, _, _, _⟩
  · subst e
    exact ⟨0 + 1, br_t (by decide) (H 0 (fun t => absurd t.1 (by decide)) (fun _ => rfl))⟩
  · subst e
    have e3 : a3 (1 : Int32).toNatClampNeg = nI 0 := cd_at (k := 1) rfl (by omega) k3
    have e30 : a2 (a3 (1 : Int32).toNatClampNeg).toNatClampNeg = 0 := by
      rw [e3]
      exact cd_at (k := 0) rfl (by omega) k20
    have e2 : a2 (1 : Int32).toNatClampNeg = nI 1 := cd_at (k := 1) rfl (by omega) k21
    refine ⟨0 + 1 + 1, br_f (by decide) ⟨pk_in 1 65 (by omega), pk_in 0 65 (by omega) e3, br_c (fun h => nm_r (nI_1 1) (br_t (by decide) (H 0 (fun t => ?_) (fun _ => rfl)))) (fun h => ⟨pk_in 1 65 (by omega), br_c (fun h' => nm_r (nI_1 1) (br_t (by decide) (H 0 (fun t => ?_) (fun _ => rfl)))) (fun h' => nm_r (nI_1 0) (nm_r (nI_1 1) (br_t (by decide) (H 1 (fun _ => rfl) (fun t => absurd ⟨rfl, ?_⟩ t)))))⟩)⟩⟩
    · rw [e30, t.2] at h
      exact absurd h (by decide)
    · rw [e2, t.2] at h'
      exact absurd h' (by decide)
    · rw [e30] at h
      rw [e2] at h'
      obtain ⟨j, hj, ej⟩ := nI_of2 (M := 1) (n := 1) (by decide) (fun z => h (cd_lle z)) (cd_nlt h')
      rcases (by omega : j = 0 ∨ j = 1) with e | e
      · rw [ej, e] at h
        exact absurd h (by decide)
      · rw [ej, e]
        rfl
end
end
section
/-! the law's own checks, stage by stage (v: the value that a stage hands on) -/
section
variable {post : Int32 → St0 → Prop} {mc ms kc ks : Nat} {x0 x1 x2 x3 x4 x5 x7 x8 x9 x10 x11 x12 x13 x14 x15 x16 x17 x18 x19 x20 x21 z0 z1 : Int32}
theorem cd_342 (h : z1 = z0) (hp : post 1 ()) : wL_lawOf_342 post mc ms z0 z1 kc ks := br_t h hp
theorem cd_341 (h : z0 = 0) (hp : post 1 ()) : wL_lawOf_341 post mc ms z0 kc ks := cd_342 (z0 := 0) h hp
theorem cd_306 (h : z1 = z0) (h11 : x11 = x15 + 64 * (x17 + x18)) (w1 : x2 = 1 → ¬ x13 = 0 → x12 = 1) (w0 : ¬ (x2 = 1 ∧ ¬ x13 = 0) → x12 = 0) (hp : post 1 ()) :
    wL_lawOf_306 post mc ms x2 x11 x12 x13 x15 x17 x18 z0 z1 kc ks :=
  br_t h (br_t h11 (br_c (fun e => br_c (fun f => cd_341 (w0 (fun t => t.2 f)) hp) (fun f => cd_342 (w1 e f) hp)) (fun e => cd_341 (w0 (fun t => e t.1)) hp)))
theorem cd_290 (h : z1 = z0) (c0 : x19 = 0 → x10 = -1) (c1 : ¬ x19 = 0 → x10 = x21)
    (h11 : x11 = x15 + 64 * (x17 + x18)) (w1 : x2 = 1 → ¬ x13 = 0 → x12 = 1) (w0 : ¬ (x2 = 1 ∧ ¬ x13 = 0) → x12 = 0) (hp : post 1 ()) :
    wL_lawOf_290 post mc ms x2 x10 x11 x12 x13 x15 x17 x18 x19 x21 z0 z1 kc ks :=
  br_t h (br_c (fun e => cd_306 (c0 e) h11 w1 w0 hp) (fun e => cd_306 (c1 e) h11 w1 w0 hp))
theorem cd_272 (h : z1 = z0) (q0 : x16 = 0 → x9 = -1) (q1 : ¬ x16 = 0 → x9 = x17 + x3) (c0 : x19 = 0 → x10 = -1) (c1 : ¬ x19 = 0 → x10 = x21)
    (h11 : x11 = x15 + 64 * (x17 + x18)) (w1 : x2 = 1 → ¬ x13 = 0 → x12 = 1) (w0 : ¬ (x2 = 1 ∧ ¬ x13 = 0) → x12 = 0) (hp : post 1 ()) :
    wL_lawOf_272 post mc ms x2 x3 x9 x10 x11 x12 x13 x15 x16 x17 x18 x19 x21 z0 z1 kc ks :=
  br_t h (br_c (fun e => cd_290 (q0 e) c0 c1 h11 w1 w0 hp) (fun e => cd_290 (q1 e) c0 c1 h11 w1 w0 hp))
theorem cd_257 (h : z1 = z0) (t0 : x14 = 0 → x8 = -1) (t1 : ¬ x14 = 0 → x8 = 1) (q0 : x16 = 0 → x9 = -1) (q1 : ¬ x16 = 0 → x9 = x17 + x3) (c0 : x19 = 0 → x10 = -1) (c1 : ¬ x19 = 0 → x10 = x21)
    (h11 : x11 = x15 + 64 * (x17 + x18)) (w1 : x2 = 1 → ¬ x13 = 0 → x12 = 1) (w0 : ¬ (x2 = 1 ∧ ¬ x13 = 0) → x12 = 0) (hp : post 1 ()) :
    wL_lawOf_257 post mc ms x2 x3 x8 x9 x10 x11 x12 x13 x14 x15 x16 x17 x18 x19 x21 z0 z1 kc ks :=
  br_t h (br_c (fun e => cd_272 (t0 e) q0 q1 c0 c1 h11 w1 w0 hp) (fun e => cd_272 (t1 e) q0 q1 c0 c1 h11 w1 w0 hp))
theorem cd_242 (s0 : x13 = 0 → x7 = -1) (s1 : ¬ x13 = 0 → x7 = 1) (t0 : x14 = 0 → x8 = -1) (t1 : ¬ x14 = 0 → x8 = 1) (q0 : x16 = 0 → x9 = -1) (q1 : ¬ x16 = 0 → x9 = x17 + x3) (c0 : x19 = 0 → x10 = -1) (c1 : ¬ x19 = 0 → x10 = z1 + z0)
    (h11 : x11 = x15 + 64 * (x17 + x18)) (w1 : x2 = 1 → ¬ x13 = 0 → x12 = 1) (w0 : ¬ (x2 = 1 ∧ ¬ x13 = 0) → x12 = 0) (hp : post 1 ()) :
    wL_lawOf_242 post mc ms x2 x3 x7 x8 x9 x10 x11 x12 x13 x14 x15 x16 x17 x18 x19 z0 z1 kc ks :=
  nm_e (br_c (fun e => cd_257 (s0 e) t0 t1 q0 q1 c0 c1 h11 w1 w0 hp) (fun e => cd_257 (s1 e) t0 t1 q0 q1 c0 c1 h11 w1 w0 hp))
theorem cd_230 (v : Int32) (e1 : x18 = 1 → x20 = v) (e0 : ¬ x18 = 1 → 0 = v) (H : wL_lawOf_242 post mc ms x2 x3 x7 x8 x9 x10 x11 x12 x13 x14 x15 x16 x17 x18 x19 v z0 kc ks) :
    wL_lawOf_230 post mc ms x2 x3 x7 x8 x9 x10 x11 x12 x13 x14 x15 x16 x17 x18 x19 x20 z0 kc ks := by
  have G : ∀ y, y = v → wL_lawOf_242 post mc ms x2 x3 x7 x8 x9 x10 x11 x12 x13 x14 x15 x16 x17 x18 x19 y z0 kc ks := fun y ey => by rw [ey]; exact H
  exact br_c (fun a => G _ (e1 a)) (fun a => G _ (e0 a))
theorem cd_202 (v : Int32) (e0 : x14 = 0 → 0 = v) (e1 : ¬ x14 = 0 → x13 = 0 → x5 = v) (e2 : ¬ x14 = 0 → ¬ x13 = 0 → x0 = x1 → z0 = v) (e3 : ¬ x14 = 0 → ¬ x13 = 0 → ¬ x0 = x1 → x5 = v)
    (H : wL_lawOf_230 post mc ms x2 x3 x7 x8 x9 x10 x11 x12 x13 x14 x15 x16 x17 x18 x19 z0 v kc ks) :
    wL_lawOf_202 post mc ms x0 x1 x2 x3 x5 x7 x8 x9 x10 x11 x12 x13 x14 x15 x16 x17 x18 x19 z0 kc ks := by
  have G : ∀ y, y = v → wL_lawOf_230 post mc ms x2 x3 x7 x8 x9 x10 x11 x12 x13 x14 x15 x16 x17 x18 x19 z0 y kc ks := fun y ey => by rw [ey]; exact H
  exact br_c (fun a => G _ (e0 a)) (fun a => br_c (fun b => G _ (e1 a b)) (fun b => br_c (fun c => G _ (e2 a b c)) (fun c => G _ (e3 a b c))))
theorem cd_186 (v : Int32) (e0 : x5 ≤ x4 → x5 = v) (e1 : ¬ x5 ≤ x4 → x4 = v) (H : wL_lawOf_202 post mc ms x0 x1 x2 x3 x5 x7 x8 x9 x10 x11 x12 x13 x14 x15 x16 x17 x18 z0 v kc ks) :
    wL_lawOf_186 post mc ms x0 x1 x2 x3 x4 x5 x7 x8 x9 x10 x11 x12 x13 x14 x15 x16 x17 x18 z0 kc ks := by
  have G : ∀ y, y = v → wL_lawOf_202 post mc ms x0 x1 x2 x3 x5 x7 x8 x9 x10 x11 x12 x13 x14 x15 x16 x17 x18 z0 y kc ks := fun y ey => by rw [ey]; exact H
  exact br_c (fun a => G _ (e0 a)) (fun a => G _ (e1 a))
theorem cd_155 (v : Int32) (e0 : x4 < 0 ∨ 100 < x4 ∨ x5 < 0 ∨ 100 < x5 → 0 = v) (e1 : ¬ x4 < 0 → ¬ 100 < x4 → ¬ x5 < 0 → ¬ 100 < x5 → 1 = v)
    (H : wL_lawOf_186 post mc ms x0 x1 x2 x3 x4 x5 x7 x8 x9 x10 x11 x12 x13 x14 x15 x16 x17 z0 v kc ks) :
    wL_lawOf_155 post mc ms x0 x1 x2 x3 x4 x5 x7 x8 x9 x10 x11 x12 x13 x14 x15 x16 x17 z0 kc ks := by
  have G : ∀ y, y = v → wL_lawOf_186 post mc ms x0 x1 x2 x3 x4 x5 x7 x8 x9 x10 x11 x12 x13 x14 x15 x16 x17 z0 y kc ks := fun y ey => by rw [ey]; exact H
  have G0 : (x4 < 0 ∨ 100 < x4 ∨ x5 < 0 ∨ 100 < x5) → wL_lawOf_185 post mc ms x0 x1 x2 x3 x4 x5 x7 x8 x9 x10 x11 x12 x13 x14 x15 x16 x17 z0 kc ks := fun h => G 0 (e0 h)
  exact br_c (fun a => G0 (.inl a)) (fun a => br_c (fun b => G0 (.inr (.inl b))) (fun b => br_c (fun c => G0 (.inr (.inr (.inl c)))) (fun c => br_c (fun d => G0 (.inr (.inr (.inr d)))) (fun d => G _ (e1 a b c d)))))
theorem cd_143 (v : Int32) (e0 : x16 = 0 → 0 = v) (e1 : ¬ x16 = 0 → x3 = v) (H : wL_lawOf_155 post mc ms x0 x1 x2 x3 x4 x5 x7 x8 x9 x10 x11 x12 x13 x14 x15 x16 z0 v kc ks) :
    wL_lawOf_143 post mc ms x0 x1 x2 x3 x4 x5 x7 x8 x9 x10 x11 x12 x13 x14 x15 x16 z0 kc ks := by
  have G : ∀ y, y = v → wL_lawOf_155 post mc ms x0 x1 x2 x3 x4 x5 x7 x8 x9 x10 x11 x12 x13 x14 x15 x16 z0 y kc ks := fun y ey => by rw [ey]; exact H
  exact br_c (fun a => G _ (e0 a)) (fun a => G _ (e1 a))
theorem cd_131 (v : Int32) (e0 : x14 = 0 → 0 = v) (e1 : ¬ x14 = 0 → 1 = v) (H : wL_lawOf_143 post mc ms x0 x1 x2 x3 x4 x5 x7 x8 x9 x10 x11 x12 x13 x14 x15 z0 v kc ks) :
    wL_lawOf_131 post mc ms x0 x1 x2 x3 x4 x5 x7 x8 x9 x10 x11 x12 x13 x14 x15 z0 kc ks := by
  have G : ∀ y, y = v → wL_lawOf_143 post mc ms x0 x1 x2 x3 x4 x5 x7 x8 x9 x10 x11 x12 x13 x14 x15 z0 y kc ks := fun y ey => by rw [ey]; exact H
  exact br_c (fun a => G _ (e0 a)) (fun a => G _ (e1 a))
theorem cd_102 (v : Int32) (e0 : x2 < 0 ∨ x3 < 0 ∨ z0 < x2 ∨ z0 - x2 < x3 → 0 = v) (e1 : ¬ x2 < 0 → ¬ x3 < 0 → ¬ z0 < x2 → ¬ z0 - x2 < x3 → 1 = v)
    (H : wL_lawOf_131 post mc ms x0 x1 x2 x3 x4 x5 x7 x8 x9 x10 x11 x12 x13 x14 z0 v kc ks) :
    wL_lawOf_102 post mc ms x0 x1 x2 x3 x4 x5 x7 x8 x9 x10 x11 x12 x13 x14 z0 kc ks := by
  have G : ∀ y, y = v → wL_lawOf_131 post mc ms x0 x1 x2 x3 x4 x5 x7 x8 x9 x10 x11 x12 x13 x14 z0 y kc ks := fun y ey => by rw [ey]; exact H
  have G0 : (x2 < 0 ∨ x3 < 0 ∨ z0 < x2 ∨ z0 - x2 < x3) → wL_lawOf_130 post mc ms x0 x1 x2 x3 x4 x5 x7 x8 x9 x10 x11 x12 x13 x14 z0 kc ks := fun h => G 0 (e0 h)
  exact br_c (fun a => G0 (.inl a)) (fun a => br_c (fun b => G0 (.inr (.inl b))) (fun b => br_c (fun c => G0 (.inr (.inr (.inl c)))) (fun c => br_c (fun d => G0 (.inr (.inr (.inr d)))) (fun d => G _ (e1 a b c d)))))
theorem cd_90 (v : Int32) (e0 : x13 = 0 → 0 = v) (e1 : ¬ x13 = 0 → 1 = v) (H : wL_lawOf_102 post mc ms x0 x1 x2 x3 x4 x5 x7 x8 x9 x10 x11 x12 x13 z0 v kc ks) :
    wL_lawOf_90 post mc ms x0 x1 x2 x3 x4 x5 x7 x8 x9 x10 x11 x12 x13 z0 kc ks := by
  have G : ∀ y, y = v → wL_lawOf_102 post mc ms x0 x1 x2 x3 x4 x5 x7 x8 x9 x10 x11 x12 x13 z0 y kc ks := fun y ey => by rw [ey]; exact H
  exact br_c (fun a => G _ (e0 a)) (fun a => G _ (e1 a))
theorem cd_74 (v : Int32) (e0 : x1 < 0 ∨ 3 < x1 → 0 = v) (e1 : ¬ x1 < 0 → ¬ 3 < x1 → 1 = v) (H : wL_lawOf_90 post mc ms x0 x1 x2 x3 x4 x5 x7 x8 x9 x10 x11 x12 z0 v kc ks) :
    wL_lawOf_74 post mc ms x0 x1 x2 x3 x4 x5 x7 x8 x9 x10 x11 x12 z0 kc ks := by
  have G : ∀ y, y = v → wL_lawOf_90 post mc ms x0 x1 x2 x3 x4 x5 x7 x8 x9 x10 x11 x12 z0 y kc ks := fun y ey => by rw [ey]; exact H
  have G0 : (x1 < 0 ∨ 3 < x1) → wL_lawOf_89 post mc ms x0 x1 x2 x3 x4 x5 x7 x8 x9 x10 x11 x12 z0 kc ks := fun h => G 0 (e0 h)
  exact br_c (fun a => G0 (.inl a)) (fun a => br_c (fun b => G0 (.inr b)) (fun b => G _ (e1 a b)))
theorem cd_73 (v : Int32) (e0 : x0 < 0 ∨ 3 < x0 → 0 = v) (e1 : ¬ x0 < 0 → ¬ 3 < x0 → 1 = v) (H : wL_lawOf_74 post mc ms x0 x1 x2 x3 x4 x5 x7 x8 x9 x10 x11 x12 v kc ks) :
    (x0 < 0 → wL_lawOf_73 post mc ms x0 x1 x2 x3 x4 x5 x7 x8 x9 x10 x11 x12 kc ks) ∧
    (¬ x0 < 0 → (3 < x0 → wL_lawOf_73 post mc ms x0 x1 x2 x3 x4 x5 x7 x8 x9 x10 x11 x12 kc ks) ∧ (¬ 3 < x0 → wL_lawOf_74 post mc ms x0 x1 x2 x3 x4 x5 x7 x8 x9 x10 x11 x12 1 kc ks)) := by
  have G : ∀ y, y = v → wL_lawOf_74 post mc ms x0 x1 x2 x3 x4 x5 x7 x8 x9 x10 x11 x12 y kc ks := fun y ey => by rw [ey]; exact H
  have G0 : (x0 < 0 ∨ 3 < x0) → wL_lawOf_73 post mc ms x0 x1 x2 x3 x4 x5 x7 x8 x9 x10 x11 x12 kc ks := fun h => G 0 (e0 h)
  exact br_c (fun a => G0 (.inl a)) (fun a => br_c (fun b => G0 (.inr b)) (fun b => G _ (e1 a b)))
end
end
section
theorem cd_01 {σ : Nat} (h : σ ≤ 1) : (nI σ = 0 → σ = 0) ∧ (¬ nI σ = 0 → σ = 1) := by
  rcases (by omega : σ = 0 ∨ σ = 1) with e | e
  · subst e
    exact ⟨fun _ => rfl, fun h => absurd rfl h⟩
  · subst e
    exact ⟨fun h => absurd h (by decide), fun _ => rfl⟩
theorem cd_Ble {x : Int32} {σ c : Nat} (B : cd_B x σ c) : σ ≤ 1 := by
  rcases B with ⟨e, _⟩ | ⟨e, _⟩ <;> omega
theorem cd_Bin {c : Nat} (h : c < 4) : ¬ (nI c < 0 ∨ 3 < nI c) := by
  rcases (by omega : c = 0 ∨ c = 1 ∨ c = 2 ∨ c = 3) with e | e | e | e <;> subst e <;> decide
theorem cd_B0 {x : Int32} {σ c : Nat} (B : cd_B x σ c) : x < 0 ∨ 3 < x → 0 = nI σ := by
  intro h
  rcases B with ⟨e, _⟩ | ⟨_, hc, e⟩
  · rw [e]
    rfl
  · rw [e] at h
    exact absurd h (cd_Bin hc)
theorem cd_B1 {x : Int32} {σ c : Nat} (B : cd_B x σ c) : ¬ x < 0 → ¬ 3 < x → 1 = nI σ := by
  intro h h'
  rcases B with ⟨_, t⟩ | ⟨e, _⟩
  · rcases t with t | t
    · exact absurd t h
    · exact absurd t h'
  · rw [e]
    rfl
theorem cd_Gin {p : Nat} (h : p ≤ 100) : ¬ nI p < 0 ∧ ¬ 100 < nI p :=
  ⟨nI_pos (by omega), nI_nlt (a := 100) h (by omega)⟩
theorem cd_low {p q : Nat} (hp : p ≤ 100) (hq : q ≤ 100) : (if nI q ≤ nI p then nI q else nI p) = nI (cd_price p q 1) := by
  by_cases h : p < q
  · rw [show cd_price p q 1 = p from if_pos ⟨rfl, h⟩, if_neg (nI_ge h (by omega))]
  · rw [show cd_price p q 1 = q from if_neg (fun t => h t.2), if_pos (nI_le (show q ≤ p by omega) (by omega))]
theorem cd_eq4 {c e : Nat} (hc : c < 4) (he : e < 4) : nI c = nI e ↔ c = e := nI_eq (by omega) (by omega)
theorem cd_fst {x0 x1 : Int32} {σ c τ e p q : Nat} (B0 : cd_B x0 σ c) (B1 : cd_B x1 τ e) :
    (if nI τ = 0 then 0 else if nI σ = 0 then nI q else if x0 = x1 then nI (cd_price p q 1) else nI q) = nI (τ * cd_price p q (cd_hit σ c e)) := by
  rcases B1 with ⟨t, _⟩ | ⟨t, he, e1⟩
  · subst t
    rw [if_pos nI_0, Nat.zero_mul, nI_0]
  · subst t
    rw [if_neg (show ¬ nI 1 = 0 by decide), Nat.one_mul]
    rcases B0 with ⟨s, _⟩ | ⟨s, hc, e0⟩
    · subst s
      rw [if_pos nI_0, show cd_hit 0 c e = 0 from if_neg (fun t => absurd t.1 (by decide))]
      rw [show cd_price p q 0 = q from if_neg (fun t => absurd t.1 (by decide))]
    · subst s
      rw [if_neg (show ¬ nI 1 = 0 by decide), e0, e1]
      by_cases h : e = c
      · rw [if_pos (by rw [h]), show cd_hit 1 c e = 1 from if_pos ⟨rfl, h⟩]
      · rw [if_neg (fun t => h ((cd_eq4 hc he).mp t).symm), show cd_hit 1 c e = 0 from if_neg (fun t => h t.2)]
        rw [show cd_price p q 0 = q from if_neg (fun t => absurd t.1 (by decide))]
theorem cd_snd {ν w : Nat} (h : ν ≤ 1) : (if nI ν = 1 then nI w else 0) = nI (ν * w) := by
  rcases (by omega : ν = 0 ∨ ν = 1) with e | e
  · subst e
    rw [if_neg (show ¬ nI 0 = 1 by decide), Nat.zero_mul, nI_0]
  · subst e
    rw [if_pos (show nI 1 = 1 from rfl), Nat.one_mul]
theorem cd_total {w : Nat → Nat} {τ ν a b : Nat} (hτ : τ ≤ 1) (hν : ν ≤ 1) (h0 : τ = 1 → w 0 = a) (h1 : ν = 1 → w τ = b) : cd_sum w (τ + ν) = τ * a + ν * b := by
  rcases (by omega : τ = 0 ∨ τ = 1) with e | e <;> rcases (by omega : ν = 0 ∨ ν = 1) with f | f <;> subst e <;> subst f
  · simp [cd_sum]
  · have := h1 rfl
    simp [cd_sum, this]
  · have := h0 rfl
    simp [cd_sum, this]
  · have t0 := h0 rfl
    have t1 := h1 rfl
    simp [cd_sum, t0, t1]
    omega
theorem cd_check {post : Int32 → St0 → Prop} {mc ms kc ks : Nat} {x0 x1 x2 x3 x4 x5 r : Int32} {σ c τ e φ ν γ p q : Nat} {l : Nat → Nat}
    (B0 : cd_B x0 σ c) (B1 : cd_B x1 τ e) (F : cd_F σ x2 x3 φ ν) (G : cd_G x4 x5 γ p q) (l0 : τ = 1 → l 0 = e) (l1 : ν = 1 → l τ = c)
    (w1 : σ = 1 ∧ x2 = 1 → r = 1) (w0 : ¬ (σ = 1 ∧ x2 = 1) → r = 0) (hp : post 1 ()) :
    (x0 < 0 → wL_lawOf_73 post mc ms x0 x1 x2 x3 x4 x5 (cd_ans σ) (cd_ans τ) (if φ = 0 then -1 else nI (τ + ν)) (if γ = 0 then -1 else nI (cd_sum (fun j => cd_price p q (cd_hit σ c (l j))) (τ + ν))) (nI σ + 64 * nI (τ + ν)) r kc ks) ∧
    (¬ x0 < 0 → (3 < x0 → wL_lawOf_73 post mc ms x0 x1 x2 x3 x4 x5 (cd_ans σ) (cd_ans τ) (if φ = 0 then -1 else nI (τ + ν)) (if γ = 0 then -1 else nI (cd_sum (fun j => cd_price p q (cd_hit σ c (l j))) (τ + ν))) (nI σ + 64 * nI (τ + ν)) r kc ks) ∧
      (¬ 3 < x0 → wL_lawOf_74 post mc ms x0 x1 x2 x3 x4 x5 (cd_ans σ) (cd_ans τ) (if φ = 0 then -1 else nI (τ + ν)) (if γ = 0 then -1 else nI (cd_sum (fun j => cd_price p q (cd_hit σ c (l j))) (τ + ν))) (nI σ + 64 * nI (τ + ν)) r 1 kc ks)) := by
  have hσ := cd_Ble B0
  have hτ := cd_Ble B1
  have hφ : φ ≤ 1 := by
    rcases F with ⟨t, _⟩ | ⟨t, _⟩ <;> omega
  have hν : ν ≤ σ := by
    rcases F with ⟨_, t, _⟩ | ⟨_, _, t, _⟩ <;> omega
  have hγ : γ ≤ 1 := by
    rcases G with ⟨t, _⟩ | ⟨t, _⟩ <;> omega
  have f3 : φ = 1 → x3 = nI ν := by
    intro h
    rcases F with ⟨t, _⟩ | ⟨_, t, _⟩
    · omega
    · exact t
  have fν : φ = 0 → ν = 0 := by
    intro h
    rcases F with ⟨_, t, _⟩ | ⟨t, _⟩ <;> omega
  refine cd_73 (nI σ) (cd_B0 B0) (cd_B1 B0) (cd_74 (nI τ) (cd_B0 B1) (cd_B1 B1) (cd_90 (nI σ) (fun h => h.symm) (fun h => by rw [(cd_01 hσ).2 h]; rfl) (cd_102 (nI φ) ?_ ?_ (cd_131 (nI τ) (fun h => h.symm) (fun h => by rw [(cd_01 hτ).2 h]; rfl) (cd_143 (nI ν) ?_ (fun h => f3 ((cd_01 hφ).2 h)) (cd_155 (nI γ) ?_ ?_
    (cd_186 (if x5 ≤ x4 then x5 else x4) (fun h => (if_pos h).symm) (fun h => (if_neg h).symm)
    (cd_202 (if nI τ = 0 then 0 else if nI σ = 0 then x5 else if x0 = x1 then (if x5 ≤ x4 then x5 else x4) else x5) ?_ ?_ ?_ ?_
    (cd_230 (if nI ν = 1 then (if x5 ≤ x4 then x5 else x4) else 0) (fun h => (if_pos h).symm) (fun h => (if_neg h).symm)
    (cd_242 ?_ ?_ ?_ ?_ ?_ ?_ ?_ ?_ ?_ ?_ ?_ hp))))))))))
  · intro h
    rcases F with ⟨t, _⟩ | ⟨_, _, _, h1, h2, h3, h4⟩
    · rw [t]
      rfl
    · rcases h with h | h | h | h
      · exact absurd h h1
      · exact absurd h h2
      · exact absurd h h3
      · exact absurd h h4
  · intro h1 h2 h3 h4
    rcases F with ⟨_, _, h⟩ | ⟨t, _⟩
    · rcases h with h | h | h | h
      · exact absurd h h1
      · exact absurd h h2
      · exact absurd h h3
      · exact absurd h h4
    · rw [t]
      rfl
  · intro h
    rw [fν ((cd_01 hφ).1 h)]
    rfl
  · intro h
    rcases G with ⟨t, _⟩ | ⟨_, gp, gq, e4, e5⟩
    · rw [t]
      rfl
    · rw [e4, e5] at h
      rcases h with h | h | h | h
      · exact absurd h (cd_Gin gp).1
      · exact absurd h (cd_Gin gp).2
      · exact absurd h (cd_Gin gq).1
      · exact absurd h (cd_Gin gq).2
  · intro h1 h2 h3 h4
    rcases G with ⟨_, h⟩ | ⟨t, _⟩
    · rcases h with h | h | h | h
      · exact absurd h h1
      · exact absurd h h2
      · exact absurd h h3
      · exact absurd h h4
    · rw [t]
      rfl
  · intro h
    rw [if_pos h]
  · intro h h'
    rw [if_neg h, if_pos h']
  · intro h h' h''
    rw [if_neg h, if_neg h', if_pos h'']
  · intro h h' h''
    rw [if_neg h, if_neg h', if_neg h'']
  · intro h
    exact if_pos ((cd_01 hσ).1 h)
  · intro h
    rw [(cd_01 hσ).2 h]
    rfl
  · intro h
    exact if_pos ((cd_01 hτ).1 h)
  · intro h
    rw [(cd_01 hτ).2 h]
    rfl
  · intro h
    exact if_pos ((cd_01 hφ).1 h)
  · intro h
    have t := (cd_01 hφ).2 h
    rw [if_neg (by omega), f3 t, nI_add]
  · intro h
    exact if_pos ((cd_01 hγ).1 h)
  · intro h
    have t := (cd_01 hγ).2 h
    rcases G with ⟨t', _⟩ | ⟨_, gp, gq, e4, e5⟩
    · omega
    · rw [if_neg (by omega), e4, e5, cd_low gp gq, cd_fst B0 B1, cd_snd (by omega), nI_add]
      refine congrArg nI (cd_total hτ (by omega) (fun h => ?_) (fun h => ?_))
      · show cd_price p q (cd_hit σ c (l 0)) = _
        rw [l0 h]
      · show cd_price p q (cd_hit σ c (l τ)) = _
        rw [l1 h, show cd_hit σ c c = 1 from if_pos ⟨by omega, rfl⟩]
  · rw [nI_add]
  · intro h h'
    exact w1 ⟨(cd_01 hσ).2 h', h⟩
  · intro h
    refine w0 (fun t => h ⟨t.2, ?_⟩)
    rw [t.1]
    decide
theorem cd_lawOf (p0 p1 p2 p3 p4 p5 : Int32) : wpL_lawOf (fun r _ => r = 1) 11 747 () p0 p1 p2 p3 p4 p5 := by
  unfold wpL_lawOf
  refine ⟨by omega, by omega, 10, 731, by omega, by omega, ?_⟩
  refine cd_init (by omega) (by omega) (fun b2 b3 b5 b6 h2 h3 h5 => ?_)
  dsimp only
  refine cd_source h2 h3 h5 (fun σ c w b2 b3 b4 b5 b6 b10 B0 K => ?_)
  dsimp only
  refine cd_target (fun τ e b1 B1 he => ?_)
  dsimp only
  have hσ := cd_Ble B0
  have hτ := cd_Ble B1
  refine cd_quote hσ hτ (fun φ ν d1 F hd hc => ?_)
  have hν : ν ≤ σ := by
    rcases F with ⟨_, t, _⟩ | ⟨_, _, t, _⟩ <;> omega
  have hl : ∀ j, j < τ + ν → (if j < τ then e else c) < 4 ∧ d1 j = nI (if j < τ then e else c) := by
    intro j hj
    by_cases h : j < τ
    · rw [if_pos h, hd j h, show j = 0 by omega]
      refine ⟨?_, he (by omega)⟩
      rcases B1 with ⟨t, _⟩ | ⟨_, t, _⟩ <;> omega
    · rw [if_neg h, show j = τ by omega, hc (by omega)]
      rcases K with ⟨t, _⟩ | ⟨_, t, _, _, _, t', _, _⟩
      · omega
      · exact ⟨t, t'⟩
  refine cd_cheap (l := fun j => if j < τ then e else c) (by omega) K hl (fun γ p q ga c9 G => ?_)
  dsimp only
  refine cd_words K (fun r w1 w0 => ?_)
  exact cd_check B0 B1 F G (fun h => if_pos (by omega)) (fun h => if_neg (by omega)) w1 w0 rfl
theorem cd_cell {post : Int32 → Prop} {L : Nat} {xs : Nat → Int32} (k : Nat) (hL : L ≤ 6) (hk : k < 6) (H : ∀ r, post r) : wpL_cellAt post L xs () (nI k) :=
  pk_le L k (fun _ => H _) (fun z => ⟨pk_in k L z, H _⟩)
theorem i_vc (xs : Nat → Int32) (L : Nat) (hL : L ≤ 6) : wpL_law (fun r => r = 1) L xs :=
  cd_cell 0 hL (by omega) (fun r1 => cd_cell 1 hL (by omega) (fun r2 => cd_cell 2 hL (by omega) (fun r3 => cd_cell 3 hL (by omega) (fun r4 => cd_cell 4 hL (by omega) (fun r5 => cd_cell 5 hL (by omega) (fun r6 => ⟨11, 747, by omega, by omega, cd_lawOf r1 r2 r3 r4 r5 r6⟩))))))
end
