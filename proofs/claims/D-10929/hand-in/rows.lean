section
/-! the plain picture: what the methods compute, with no program in sight -/
/-- digit x of a word -/
def ts_bit (f : Int64) (x : Int32) : Int32 := (((f.toUInt64 >>> (x.toInt64.toUInt64 &&& Int64.toUInt64 63)).toInt64) &&& 1).toInt32
/-- the word with the one digit x -/
def ts_pt (x : Int32) : Int64 := (1 : Int64) <<< (x.toInt64 &&& 63)
/-- one turn of 'transformed' -/
def ts_st (m : Int64) (i : Int32) (v : Int64) : Int64 := v ^^^ ((v &&& m) <<< (((1 : Int32) <<< (i &&& 31)).toInt64 &&& 63))
/-- 'transformed' -/
def ts_tr (f : Int64) : Int64 := ts_st 4294967295 5 (ts_st 281470681808895 4 (ts_st 71777214294589695 3 (ts_st 1085102592571150095 2 (ts_st 3689348814741910323 1 (ts_st 6148914691236517205 0 f)))))
def ts_o1 (f : Int64) : Int64 := f - (((f.toUInt64 >>> ((1 : Int32).toInt64.toUInt64 &&& Int64.toUInt64 63)).toInt64) &&& 6148914691236517205)
def ts_o2 (a : Int64) : Int64 := (a &&& 3689348814741910323) + (((a.toUInt64 >>> ((2 : Int32).toInt64.toUInt64 &&& Int64.toUInt64 63)).toInt64) &&& 3689348814741910323)
def ts_o3 (b : Int64) : Int64 := (b + ((b.toUInt64 >>> ((4 : Int32).toInt64.toUInt64 &&& Int64.toUInt64 63)).toInt64)) &&& 1085102592571150095
def ts_o4 (c : Int64) : Int32 := (((c * 72340172838076673).toUInt64 >>> ((56 : Int32).toInt64.toUInt64 &&& Int64.toUInt64 63)).toInt64).toInt32
/-- 'onesOf' -/
def ts_on (f : Int64) : Int32 := ts_o4 (ts_o3 (ts_o2 (ts_o1 f)))
/-- the law's 'zeros' and 1 << zeros -/
def ts_many (a : Int32) : Int32 := (1 : Int32) <<< (((((((6 - (a &&& 1)) - ((a >>> ((1 : Int32) &&& 31)) &&& 1)) - ((a >>> ((2 : Int32) &&& 31)) &&& 1)) - ((a >>> ((3 : Int32) &&& 31)) &&& 1)) - ((a >>> ((4 : Int32) &&& 31)) &&& 1)) - ((a >>> ((5 : Int32) &&& 31)) &&& 1)) &&& 31)
/-- the law's 'parity' -/
def ts_par (x : Int32) : Int32 := (((x ^^^ (x >>> ((3 : Int32) &&& 31))) ^^^ ((x ^^^ (x >>> ((3 : Int32) &&& 31))) >>> ((1 : Int32) &&& 31))) ^^^ ((x ^^^ (x >>> ((3 : Int32) &&& 31))) >>> ((2 : Int32) &&& 31))) &&& 1
/-- the word of the points above a, as a natural number -/
def ts_T (a : Nat) : Nat := (if a % 2 = 0 then 3 else 2) * (if a / 2 % 2 = 0 then 5 else 4) * (if a / 4 % 2 = 0 then 17 else 16) * (if a / 8 % 2 = 0 then 257 else 256) * (if a / 16 % 2 = 0 then 65537 else 65536) * (if a / 32 % 2 = 0 then 4294967297 else 4294967296)
theorem ts_k_pt : ∀ x, x < 64 → ts_pt (nI x) = lN (2 ^ x) := by decide +kernel
theorem ts_k_tr : ∀ a, a < 64 → ts_tr (lN (2 ^ a)) = lN (ts_T a) := by decide +kernel
theorem ts_k_tr0 : ts_tr 0 = 0 := by decide +kernel
theorem ts_k_b0 : ∀ u, u < 64 → ts_bit 0 (nI u) = 0 := by decide +kernel
theorem ts_k_o0 : ts_on 0 = 0 := by decide +kernel
theorem ts_k_o1 : ∀ x, x < 64 → ts_on (lN (2 ^ x)) = 1 := by decide +kernel
theorem ts_k_t0 : ∀ a, a < 64 → ts_on (lN (ts_T a)) = ts_many (nI a) := by decide +kernel
theorem ts_k_b1 : ∀ x, x < 64 → ∀ u, u < 64 → ts_bit (lN (2 ^ x)) (nI u) = if nI u = nI x then 1 else 0 := by decide +kernel
end
section
theorem ts_k_fm : ∀ x, x < 64 → ∀ u, u < 64 → ts_bit (lN (ts_T x)) (nI u) = if nI x &&& (nI u ^^^ (-1)) = 0 then 1 else 0 := by decide +kernel
end
section
theorem ts_k_tn : ∀ x, x < 64 → ∀ a, a < 64 → ts_on (lN (2 ^ x) ^^^ lN (ts_T a)) = if nI a &&& (nI x ^^^ (-1)) = 0 then ts_many (nI a) - 1 else ts_many (nI a) + 1 := by decide +kernel
end
section
/-! the spectrum's picture: after i turns of 'spread' the sum at y, for the table with the one point x (o), or none -/
def ts_pn (n : Nat) : Nat := (n % 2 + n / 2 % 2 + n / 4 % 2 + n / 8 % 2 + n / 16 % 2 + n / 32 % 2) % 2
def ts_S (o : Bool) (x i y : Nat) : Int32 := (if y % 2 ^ i = 0 then nI (2 ^ i) else 0) - (if o = true then (if y / 2 ^ i = x / 2 ^ i then (if ts_pn ((y &&& x) % 2 ^ i) = 0 then 2 else -2) else 0) else 0)
def ts_w (o : Bool) (x : Nat) : Int64 := if o = true then lN (2 ^ x) else 0
/-- the lower point of y's pair at digit i -/
def ts_lo (i y : Nat) : Nat := y - y / 2 ^ i % 2 * 2 ^ i
theorem ts_lo_a : ∀ i, i < 6 → ∀ k, k < 64 → k / 2 ^ i % 2 = 0 → k + 2 ^ i < 64 ∧ ts_lo i k = k ∧ ts_lo i (k + 2 ^ i) = k := by decide +kernel
theorem ts_lo_b : ∀ i, i < 6 → ∀ y, y < 64 → ts_lo i y < 64 ∧ ts_lo i y / 2 ^ i % 2 = 0 ∧ (y = ts_lo i y ∨ y = ts_lo i y + 2 ^ i) := by decide +kernel
theorem ts_k_shl : ∀ i, i < 6 → (1 : Int32) <<< (nI i &&& 31) = nI (2 ^ i) := by decide +kernel
theorem ts_k_shr : ∀ i, i < 6 → ∀ k, k < 64 → (((nI k >>> (nI i &&& 31)) &&& 1) = 0 ↔ k / 2 ^ i % 2 = 0) := by decide +kernel
theorem ts_S0f : ∀ y, y < 64 → ts_S false 0 0 y = 1 - 2 * ts_bit 0 (nI y) := by decide +kernel
theorem ts_S0t : ∀ x, x < 64 → ∀ y, y < 64 → ts_S true x 0 y = 1 - 2 * ts_bit (lN (2 ^ x)) (nI y) := by decide +kernel
theorem ts_S6f : ∀ a, a < 64 → ts_S false 0 6 a = if nI a = 0 then 64 else 0 := by decide +kernel
theorem ts_S6t : ∀ x, x < 64 → ∀ a, a < 64 → ts_S true x 6 a = ((if nI a = 0 then 64 else 0) - 2) + 4 * ts_par ((nI a &&& nI x) &&& 63) := by decide +kernel
theorem ts_Sf (x i y : Nat) : ts_S false x i y = ts_S false 0 i y := rfl
theorem ts_stf : ∀ i, i < 6 → ∀ y, y < 64 → y / 2 ^ i % 2 = 0 → ts_S false 0 i y + ts_S false 0 i (y + 2 ^ i) = ts_S false 0 (i + 1) y ∧ ts_S false 0 i y - ts_S false 0 i (y + 2 ^ i) = ts_S false 0 (i + 1) (y + 2 ^ i) := by decide +kernel
theorem ts_stt : ∀ i, i < 6 → ∀ x, x < 64 → ∀ y, y < 64 → y / 2 ^ i % 2 = 0 → ts_S true x i y + ts_S true x i (y + 2 ^ i) = ts_S true x (i + 1) y ∧ ts_S true x i y - ts_S true x i (y + 2 ^ i) = ts_S true x (i + 1) (y + 2 ^ i) := by decide +kernel
theorem ts_S_0 (o : Bool) {x : Nat} (hx : x < 64) {y : Nat} (hy : y < 64) : ts_S o x 0 y = 1 - 2 * ts_bit (ts_w o x) (nI y) := by
  cases o
  · rw [ts_Sf]
    exact ts_S0f y hy
  · exact ts_S0t x hx y hy
theorem ts_S_st (o : Bool) {i : Nat} (hi : i < 6) {x : Nat} (hx : x < 64) {y : Nat} (hy : y < 64) (hb : y / 2 ^ i % 2 = 0) : ts_S o x i y + ts_S o x i (y + 2 ^ i) = ts_S o x (i + 1) y ∧ ts_S o x i y - ts_S o x i (y + 2 ^ i) = ts_S o x (i + 1) (y + 2 ^ i) := by
  cases o
  · rw [ts_Sf x i y, ts_Sf x i (y + 2 ^ i), ts_Sf x (i + 1) y, ts_Sf x (i + 1) (y + 2 ^ i)]
    exact ts_stf i hi y hy hb
  · exact ts_stt i hi x hx y hy hb
end
section
/-! the walk: the loops -/
def ts_L (a : Nat → Int64) : Prop := a 0 = 6148914691236517205 ∧ a 1 = 3689348814741910323 ∧ a 2 = 1085102592571150095 ∧ a 3 = 71777214294589695 ∧ a 4 = 281470681808895 ∧ a 5 = 4294967295
theorem ts_dg {post : Int32 → Prop} {a1 a2 : Nat → Int64} {a3 : Nat → Int32} {f : Int64} {x : Int32} (H : post (ts_bit f x)) : wpX_digit post (a1, a2, a3) f x := H
theorem ts_wst {post : Int64 → Prop} {a1 a2 : Nat → Int64} {a3 : Nat → Int32} {n : Nat} {v : Int64} (k : Nat) (hk : k < 6) {m : Int64} (hm : a2 k = m)
    (H : wX_transformed_5 post a1 a2 a3 n (ts_st m (nI k) v) (nI (k + 1))) : wX_transformed_5 post a1 a2 a3 (n + 1) v (nI k) :=
  pk_le 6 k (fun z => absurd z (by omega)) (fun _ => ⟨pk_in k 6 hk, nm_r (by rw [nI_clamp (by omega), hm]; rfl) (nm_r (nI_1 k) H)⟩)
theorem ts_wtr {post : Int64 → Prop} {a1 a2 : Nat → Int64} {a3 : Nat → Int32} {f : Int64} (hl : ts_L a2) (H : post (ts_tr f)) : wpX_transformed post (a1, a2, a3) f := by
  obtain ⟨h0, h1, h2, h3, h4, h5⟩ := hl
  refine ⟨7, ?_⟩
  refine ts_wst 0 (by decide) h0 (ts_wst 1 (by decide) h1 (ts_wst 2 (by decide) h2 (ts_wst 3 (by decide) h3 (ts_wst 4 (by decide) h4 (ts_wst 5 (by decide) h5 ?_)))))
  exact pk_le 6 6 (fun _ => H) (fun z => absurd z (by omega))
theorem ts_won {post : Int32 → Prop} {a1 a2 : Nat → Int64} {a3 : Nat → Int32} {f : Int64} (hl : ts_L a2) (H : post (ts_on f)) : wpX_onesOf post (a1, a2, a3) f := by
  obtain ⟨h0, h1, h2, h3, h4, h5⟩ := hl
  unfold wpX_onesOf
  dsimp only
  rw [h0, h1, h2]
  exact nm_r (e' := ts_o1 f) rfl (nm_r (e' := ts_o2 (ts_o1 f)) rfl (nm_r (e' := ts_o3 (ts_o2 (ts_o1 f))) rfl H))
/-- the inner loop's invariant: pairs whose lower point is below k are done -/
def ts_I (o : Bool) (x i k : Nat) (s : Nat → Int32) : Prop := ∀ y, y < 64 → s y = if ts_lo i y < k then ts_S o x (i + 1) y else ts_S o x i y
theorem ts_I0 {o : Bool} {x i : Nat} {s : Nat → Int32} (h : ∀ y, y < 64 → s y = ts_S o x i y) : ts_I o x i 0 s := by
  intro y hy
  rw [if_neg (Nat.not_lt_zero _)]
  exact h y hy
theorem ts_I64 {o : Bool} {x i : Nat} (hi : i < 6) {s : Nat → Int32} (h : ts_I o x i 64 s) : ∀ y, y < 64 → s y = ts_S o x (i + 1) y := by
  intro y hy
  rw [h y hy, if_pos (ts_lo_b i hi y hy).1]
theorem ts_Iskip {o : Bool} {x i k : Nat} (hi : i < 6) {s : Nat → Int32} (hb : ¬ k / 2 ^ i % 2 = 0) (h : ts_I o x i k s) : ts_I o x i (k + 1) s := by
  intro y hy
  rw [h y hy]
  have g : ts_lo i y ≠ k := by
    intro e
    have := (ts_lo_b i hi y hy).2.1
    rw [e] at this
    exact hb this
  by_cases c : ts_lo i y < k
  · rw [if_pos c, if_pos (by omega)]
  · rw [if_neg c, if_neg (by omega)]
theorem ts_Istep {o : Bool} {x i k : Nat} (hi : i < 6) {s : Nat → Int32} (hk : k < 64) (hb : k / 2 ^ i % 2 = 0) (h : ts_I o x i k s) :
    ts_I o x i (k + 1) (upd (upd s k (ts_S o x (i + 1) k)) (k + 2 ^ i) (ts_S o x (i + 1) (k + 2 ^ i))) := by
  intro y hy
  obtain ⟨l1, l2, l3⟩ := ts_lo_a i hi k hk hb
  by_cases e : y = k + 2 ^ i
  · rw [e, pk_us, l3, if_pos (by omega)]
  · rw [pk_un e]
    by_cases e' : y = k
    · rw [e', pk_us, l2, if_pos (by omega)]
    · rw [pk_un e', h y hy]
      have g : ts_lo i y ≠ k := by
        intro z
        have := (ts_lo_b i hi y hy).2.2
        rw [z] at this
        rcases this with w | w
        · exact e' w
        · exact e w
      by_cases c : ts_lo i y < k
      · rw [if_pos c, if_pos (by omega)]
      · rw [if_neg c, if_neg (by omega)]
theorem ts_inner {post : St2 → Prop} {J2 : Int32 → (Nat → Int64) → (Nat → Int64) → (Nat → Int32) → Prop} {a1 a2 : Nat → Int64} {o : Bool} {x i : Nat} (hi : i < 6) (hx : x < 64) (s : Nat → Int32)
    (h : ∀ y, y < 64 → s y = ts_S o x i y) (H : ∀ s', (∀ y, y < 64 → s' y = ts_S o x (i + 1) y) → J2 (nI (i + 1)) a1 a2 s') : ∃ n, wX_spread_14 post J2 (nI i) (nI (2 ^ i)) n 0 a1 a2 s := by
  refine pk_loop (fun n k s => wX_spread_14 post J2 (nI i) (nI (2 ^ i)) n (nI k) a1 a2 s) (ts_I o x i) 64 0 s (by omega) (ts_I0 h)
    (fun n s g => pk_le 64 64 (fun _ => nm_r (nI_1 i) (H s (ts_I64 hi g))) (fun z => absurd z (by omega)))
    (fun n k s hk g hw => pk_le 64 k (fun z => absurd z (by omega)) (fun _ => ek_if (ts_k_shr i hi k hk) (fun hb => ?_) (fun hb => nm_r (nI_1 k) (hw _ (ts_Iskip hi hb g)))))
  obtain ⟨l1, l2, l3⟩ := ts_lo_a i hi k hk hb
  obtain ⟨s1, s2⟩ := ts_S_st o hi hx hk hb
  have c1 : (nI k).toNatClampNeg = k := nI_clamp (by omega)
  have c2 : (nI k + nI (2 ^ i)).toNatClampNeg = k + 2 ^ i := by rw [nI_add, nI_clamp (by omega)]
  have i1 : vp_in (nI k) 64 := pk_in k 64 hk
  have i2 : vp_in (nI k + nI (2 ^ i)) 64 := by rw [nI_add]; exact pk_in (k + 2 ^ i) 64 l1
  have v1 : s (nI k).toNatClampNeg = ts_S o x i k := by rw [c1, g k hk, if_neg (by omega)]
  have v2 : s (nI k + nI (2 ^ i)).toNatClampNeg = ts_S o x i (k + 2 ^ i) := by rw [c2, g _ l1, if_neg (by omega)]
  exact ⟨i1, nm_r v1 ⟨i2, nm_r v2 ⟨i1, nm_r (by rw [c1, s1]) ⟨i2, nm_r (by rw [c2, s2]) (nm_r (nI_1 k) (hw _ (ts_Istep hi hk hb g)))⟩⟩⟩⟩
theorem ts_spread {post : St2 → Prop} {a1 a2 : Nat → Int64} {o : Bool} {x : Nat} (hx : x < 64) (s : Nat → Int32)
    (h : ∀ y, y < 64 → s y = ts_S o x 0 y) (H : ∀ s', (∀ y, y < 64 → s' y = ts_S o x 6 y) → post (a1, a2, s')) : wpX_spread post (a1, a2, s) :=
  pk_loop (fun n i s => wX_spread_2 post n (nI i) a1 a2 s) (fun i s => ∀ y, y < 64 → s y = ts_S o x i y) 6 0 s (by omega) h
    (fun n s g => pk_le 6 6 (fun _ => H s g) (fun z => absurd z (by omega)))
    (fun n i s hi g hw => pk_le 6 i (fun z => absurd z (by omega)) (fun _ => nm_r (ts_k_shl i hi) (ts_inner hi hx s g hw)))
theorem ts_spectrumOf {post : St2 → Prop} {a1 a2 : Nat → Int64} {o : Bool} {x t : Nat} (hx : x < 64) (ht : t < 4) (ha : a1 t = ts_w o x) (s : Nat → Int32)
    (H : ∀ s', (∀ y, y < 64 → s' y = ts_S o x 6 y) → post (a1, a2, s')) : wpX_spectrumOf post (a1, a2, s) (nI t) := by
  refine pk_loop (fun n i s => wX_spectrumOf_2 post (nI t) n (nI i) a1 a2 s) (fun i s => ∀ y, y < i → s y = ts_S o x 0 y) 64 0 s (by omega) (fun y hy => absurd hy (by omega))
    (fun n s g => pk_le 64 64 (fun _ => ts_spread hx s g H) (fun z => absurd z (by omega)))
    (fun n i s hi g hw => pk_le 64 i (fun z => absurd z (by omega)) (fun _ => ⟨pk_in t 4 ht, ts_dg ⟨pk_in i 64 hi, nm_r (e' := upd s i (ts_S o x 0 i)) ?_ (nm_r (nI_1 i) (hw _ ?_))⟩⟩))
  · rw [nI_clamp (show t < 2 ^ 31 by omega), nI_clamp (show i < 2 ^ 31 by omega), ha, ts_S_0 o hx hi]
  · intro y hy
    by_cases e : y = i
    · rw [e, pk_us]
    · rw [pk_un e]
      exact g y (by omega)
end
section
/-! the methods: what each answers, on the table with the one point x (where the law set it), or none -/
abbrev ts_tin (t : Int32) : Prop := ¬ t < 0 ∧ ¬ 3 < t
abbrev ts_pin (x : Int32) : Prop := ¬ x < 0 ∧ ¬ 63 < x
abbrev ts_set (t x v : Int32) : Prop := ts_tin t ∧ ts_pin x ∧ ¬ v < 0 ∧ ¬ 1 < v
abbrev ts_one (t x v : Int32) : Prop := ts_set t x v ∧ v = 1
/-- the tables behind 'put' -/
def ts_A (t x v : Int32) (a1 : Nat → Int64) : Prop := ∀ k, k < 4 → t = nI k → a1 k = if ts_one t x v then ts_pt x else 0
theorem ts_tin_e {t : Int32} (h : ts_tin t) : ∃ k, k < 4 ∧ t = nI k := by
  obtain ⟨j, hj, e⟩ := nI_of2 (M := 3) (n := 3) (by decide) h.1 (Int32.not_lt.mp h.2)
  exact ⟨j, by omega, e⟩
theorem ts_pin_e {t : Int32} (h : ts_pin t) : ∃ k, k < 64 ∧ t = nI k := by
  obtain ⟨j, hj, e⟩ := nI_of2 (M := 63) (n := 63) (by decide) h.1 (Int32.not_lt.mp h.2)
  exact ⟨j, by omega, e⟩
theorem ts_lt4 {t : Int32} (w : t < 4) : ¬ 3 < t := by
  rw [Int32.lt_iff_toInt_lt] at w ⊢
  have e4 : (4 : Int32).toInt = 4 := by decide
  have e3 : (3 : Int32).toInt = 3 := by decide
  rw [e4] at w
  rw [e3]
  omega
theorem ts_lt64 {t : Int32} (w : t < 64) : ¬ 63 < t := by
  rw [Int32.lt_iff_toInt_lt] at w ⊢
  have e4 : (64 : Int32).toInt = 64 := by decide
  have e3 : (63 : Int32).toInt = 63 := by decide
  rw [e4] at w
  rw [e3]
  omega
theorem ts_wbad {post : Int32 → Prop} {a1 a2 : Nat → Int64} {a3 : Nat → Int32} {t : Int32} (H1 : ¬ ts_tin t → post 1) (H0 : ts_tin t → post 0) : wpX_bad post (a1, a2, a3) t := by
  by_cases h : ts_tin t
  · obtain ⟨k, hk, rfl⟩ := ts_tin_e h
    exact br_f h.1 (br_t (nI_lt hk (by decide)) (H0 h))
  · exact br_c (fun _ => H1 h) (fun z => br_c (fun w => absurd ⟨z, ts_lt4 w⟩ h) (fun _ => H1 h))
theorem ts_wbp {post : Int32 → Prop} {a1 a2 : Nat → Int64} {a3 : Nat → Int32} {t : Int32} (H1 : ¬ ts_pin t → post 1) (H0 : ts_pin t → post 0) : wpX_badPoint post (a1, a2, a3) t := by
  by_cases h : ts_pin t
  · obtain ⟨k, hk, rfl⟩ := ts_pin_e h
    exact br_f h.1 (br_t (nI_lt hk (by decide)) (H0 h))
  · exact br_c (fun _ => H1 h) (fun z => br_c (fun w => absurd ⟨z, ts_lt64 w⟩ h) (fun _ => H1 h))
theorem ts_v1 {v : Int32} (h0 : ¬ v < 0) (h1 : v ≤ 1) (hz : ¬ (0 : Int32) = v) : v = 1 := by
  obtain ⟨j, hj, e⟩ := nI_of2 (M := 1) (n := 1) (by decide) h0 h1
  rcases Nat.lt_or_ge j 1 with g | g
  · have : j = 0 := by omega
    rw [this] at e
    exact absurd e.symm hz
  · have : j = 1 := by omega
    rw [e, this]
    rfl
theorem ts_A_e {t x v : Int32} {a1 : Nat → Int64} (hA : ts_A t x v a1) {k : Nat} (hk : k < 4) (e : t = nI k) : (∃ z, z < 64 ∧ x = nI z ∧ ts_one t x v ∧ a1 k = lN (2 ^ z)) ∨ (¬ ts_one t x v ∧ a1 k = 0) := by
  have h := hA k hk e
  by_cases c : ts_one t x v
  · rw [if_pos c] at h
    obtain ⟨z, hz, ez⟩ := ts_pin_e c.1.2.1
    refine Or.inl ⟨z, hz, ez, c, ?_⟩
    rw [h, ez]
    exact ts_k_pt z hz
  · rw [if_neg c] at h
    exact Or.inr ⟨c, h⟩
theorem ts_init {post : St2 → Prop} (H : ∀ a2, ts_L a2 → post ((fun _ => 0), a2, (fun _ => 0))) : wpX_init post 51 813 () := by
  unfold wpX_init
  exact ⟨by omega, by omega, by omega, by omega, by omega, by omega, nm_e (nm_e (nm_e (nm_e (nm_e (nm_e (H _ ⟨rfl, rfl, rfl, rfl, rfl, rfl⟩))))))⟩
theorem ts_put {post : Int32 → St2 → Prop} {a2 : Nat → Int64} {a3 : Nat → Int32} {t x v : Int32} (H : ∀ a1, ts_A t x v a1 → post (if ts_set t x v then 0 else -1000) (a1, a2, a3)) : wpX_put post ((fun _ => 0), a2, a3) t x v := by
  have hN : ¬ ts_set t x v → post (-1000) ((fun _ => 0), a2, a3) := by
    intro h
    have w := H (fun _ => 0) (fun k _ _ => (if_neg (fun z => h z.1)).symm)
    rw [if_neg h] at w
    exact w
  unfold wpX_put
  dsimp only
  refine ts_wbad (fun h => br_f (by decide) (hN (fun z => h z.1))) (fun h => br_t rfl ?_)
  refine ts_wbp (fun g => br_f (by decide) (hN (fun z => g z.2.1))) (fun g => br_t rfl ?_)
  refine br_c (fun c => hN (fun z => z.2.2.1 c)) (fun c => br_c (fun d => ?_) (fun d => hN (fun z => d (Int32.not_lt.mp z.2.2.2))))
  have hs : ts_set t x v := ⟨h, g, c, Int32.not_lt.mpr d⟩
  rw [if_pos hs] at H
  obtain ⟨k, hk, rfl⟩ := ts_tin_e h
  obtain ⟨y, hy, rfl⟩ := ts_pin_e g
  refine ⟨pk_in k 4 hk, ts_dg ?_⟩
  rw [ts_k_b0 y hy]
  refine br_c (fun z => H _ (fun k _ _ => (if_neg (fun w => ?_)).symm)) (fun z => ⟨pk_in k 4 hk, pk_in k 4 hk, nm_r (e' := vp_updL (fun _ => 0) k (ts_pt (nI y))) ?_ (H _ (fun j _ ej => ?_))⟩)
  · have w2 := w.2
    rw [← z] at w2
    exact absurd w2 (by decide)
  · rw [nI_clamp (show k < 2 ^ 31 by omega), Int64.zero_xor]
    rfl
  · have ek : k = j := (nI_eq (by omega) (by omega)).mp ej
    rw [← ek, pk_uLs, if_pos ⟨hs, ts_v1 c d z⟩]
theorem ts_value {post : Int32 → Prop} {a1 a2 : Nat → Int64} {a3 : Nat → Int32} {t x v u : Int32} (hA : ts_A t x v a1)
    (H : post (if ts_tin t ∧ ts_pin u then (if ts_one t x v ∧ u = x then 1 else 0) else -1000)) : wpX_value post (a1, a2, a3) t u := by
  unfold wpX_value
  dsimp only
  refine ts_wbad (fun h => br_f (by decide) ?_) (fun h => br_t rfl (ts_wbp (fun g => br_f (by decide) ?_) (fun g => br_t rfl ?_)))
  · rw [if_neg (fun z => h z.1)] at H
    exact H
  · rw [if_neg (fun z => g z.2)] at H
    exact H
  · rw [if_pos ⟨h, g⟩] at H
    obtain ⟨k, hk, rfl⟩ := ts_tin_e h
    obtain ⟨y, hy, rfl⟩ := ts_pin_e g
    refine ⟨pk_in k 4 hk, ts_dg ?_⟩
    rw [nI_clamp (show k < 2 ^ 31 by omega)]
    rcases ts_A_e hA hk rfl with ⟨z, hz, ez, c, e⟩ | ⟨c, e⟩
    · subst ez
      rw [e, ts_k_b1 z hz y hy]
      by_cases d : nI y = nI z
      · rw [if_pos ⟨c, d⟩] at H
        rw [if_pos d]
        exact H
      · rw [if_neg (fun w => d w.2)] at H
        rw [if_neg d]
        exact H
    · rw [if_neg (fun w => c w.1)] at H
      rw [e, ts_k_b0 y hy]
      exact H
theorem ts_form {post : Int32 → Prop} {a1 a2 : Nat → Int64} {a3 : Nat → Int32} {t x v u : Int32} (hA : ts_A t x v a1) (hl : ts_L a2)
    (H : post (if ts_tin t ∧ ts_pin u then (if ts_one t x v ∧ x &&& (u ^^^ (-1)) = 0 then 1 else 0) else -1000)) : wpX_form post (a1, a2, a3) t u := by
  unfold wpX_form
  dsimp only
  refine ts_wbad (fun h => br_f (by decide) ?_) (fun h => br_t rfl (ts_wbp (fun g => br_f (by decide) ?_) (fun g => br_t rfl ?_)))
  · rw [if_neg (fun z => h z.1)] at H
    exact H
  · rw [if_neg (fun z => g z.2)] at H
    exact H
  · rw [if_pos ⟨h, g⟩] at H
    obtain ⟨k, hk, rfl⟩ := ts_tin_e h
    obtain ⟨y, hy, rfl⟩ := ts_pin_e g
    refine ⟨pk_in k 4 hk, ts_wtr hl (ts_dg ?_)⟩
    rw [nI_clamp (show k < 2 ^ 31 by omega)]
    rcases ts_A_e hA hk rfl with ⟨z, hz, ez, c, e⟩ | ⟨c, e⟩
    · subst ez
      rw [e, ts_k_tr z hz, ts_k_fm z hz y hy]
      by_cases d : nI z &&& (nI y ^^^ (-1)) = 0
      · rw [if_pos ⟨c, d⟩] at H
        rw [if_pos d]
        exact H
      · rw [if_neg (fun w => d w.2)] at H
        rw [if_neg d]
        exact H
    · rw [if_neg (fun w => c w.1)] at H
      rw [e, ts_k_tr0, ts_k_b0 y hy]
      exact H
theorem ts_spectrum {post : Int32 → St2 → Prop} {a1 a2 : Nat → Int64} {a3 : Nat → Int32} {t x v a : Int32} (hA : ts_A t x v a1)
    (H : ∀ s, post (if ts_tin t ∧ ts_pin a then (if ts_one t x v then ((if a = 0 then 64 else 0) - 2) + 4 * ts_par ((a &&& x) &&& 63) else (if a = 0 then 64 else 0)) else -1000) (a1, a2, s)) : wpX_spectrum post (a1, a2, a3) t a := by
  unfold wpX_spectrum
  dsimp only
  refine ts_wbad (fun h => br_f (by decide) ?_) (fun h => br_t rfl (ts_wbp (fun g => br_f (by decide) ?_) (fun g => br_t rfl ?_)))
  · rw [if_neg (fun z => h z.1)] at H
    exact H a3
  · rw [if_neg (fun z => g z.2)] at H
    exact H a3
  · rw [if_pos ⟨h, g⟩] at H
    obtain ⟨k, hk, rfl⟩ := ts_tin_e h
    obtain ⟨y, hy, rfl⟩ := ts_pin_e g
    rcases ts_A_e hA hk rfl with ⟨z, hz, ez, c, e⟩ | ⟨c, e⟩
    · subst ez
      refine ts_spectrumOf (o := true) hz hk e a3 (fun s hs => ?_)
      refine ⟨pk_in y 64 hy, ?_⟩
      show post (s (nI y).toNatClampNeg) (a1, a2, s)
      rw [nI_clamp (show y < 2 ^ 31 by omega), hs y hy, ts_S6t z hz y hy]
      rw [if_pos c] at H
      exact H s
    · refine ts_spectrumOf (o := false) (x := 0) (by omega) hk e a3 (fun s hs => ?_)
      refine ⟨pk_in y 64 hy, ?_⟩
      show post (s (nI y).toNatClampNeg) (a1, a2, s)
      rw [nI_clamp (show y < 2 ^ 31 by omega), hs y hy, ts_S6f y hy]
      rw [if_neg c] at H
      exact H s
theorem ts_ones {post : Int32 → Prop} {a1 a2 : Nat → Int64} {a3 : Nat → Int32} {t x v : Int32} (hA : ts_A t x v a1) (hl : ts_L a2)
    (H : post (if ts_tin t then (if ts_one t x v then 1 else 0) else -1000)) : wpX_ones post (a1, a2, a3) t := by
  unfold wpX_ones
  dsimp only
  refine ts_wbad (fun h => br_f (by decide) ?_) (fun h => br_t rfl ?_)
  · rw [if_neg h] at H
    exact H
  · rw [if_pos h] at H
    obtain ⟨k, hk, rfl⟩ := ts_tin_e h
    refine ⟨pk_in k 4 hk, ts_won hl ?_⟩
    rw [nI_clamp (show k < 2 ^ 31 by omega)]
    rcases ts_A_e hA hk rfl with ⟨z, hz, ez, c, e⟩ | ⟨c, e⟩
    · rw [if_pos c] at H
      rw [e, ts_k_o1 z hz]
      exact H
    · rw [if_neg c] at H
      rw [e, ts_k_o0]
      exact H
theorem ts_turn {post : Int32 → St2 → Prop} {a1 a2 : Nat → Int64} {a3 : Nat → Int32} {t x v a : Int32} (hA : ts_A t x v a1) (hl : ts_L a2)
    (H : ∀ b, post (if ts_tin t ∧ ts_pin a then (if ts_one t x v then (if a &&& (x ^^^ (-1)) = 0 then ts_many a - 1 else ts_many a + 1) else ts_many a) else -1000) (b, a2, a3)) : wpX_turnForm post (a1, a2, a3) t a := by
  unfold wpX_turnForm
  dsimp only
  refine ts_wbad (fun h => br_f (by decide) ?_) (fun h => br_t rfl (ts_wbp (fun g => br_f (by decide) ?_) (fun g => br_t rfl ?_)))
  · rw [if_neg (fun z => h z.1)] at H
    exact H a1
  · rw [if_neg (fun z => g z.2)] at H
    exact H a1
  · rw [if_pos ⟨h, g⟩] at H
    obtain ⟨k, hk, rfl⟩ := ts_tin_e h
    obtain ⟨y, hy, rfl⟩ := ts_pin_e g
    refine ts_wtr hl ?_
    have ep : ts_tr ((1 : Int64) <<< ((nI y).toInt64 &&& 63)) = lN (ts_T y) := by
      have q : ts_tr (ts_pt (nI y)) = lN (ts_T y) := by rw [ts_k_pt y hy, ts_k_tr y hy]
      exact q
    rw [ep, nI_clamp (show k < 2 ^ 31 by omega)]
    refine ⟨pk_in k 4 hk, pk_in k 4 hk, nm_e ⟨pk_in k 4 hk, ts_won hl ?_⟩⟩
    rw [pk_uLs]
    rcases ts_A_e hA hk rfl with ⟨z, hz, ez, c, e⟩ | ⟨c, e⟩
    · subst ez
      rw [if_pos c] at H
      rw [e, ts_k_tn z hz y hy]
      exact H _
    · rw [if_neg c] at H
      rw [e, Int64.zero_xor, ts_k_t0 y hy]
      exact H _
end
section
/-! the law's own tests, one a lemma -/
theorem ts_g79 {post mc ms x1 x2 x3 x4 x6 x7 x8 x9 x10 x11 z0 kc ks} (H : wL_lawOf_96 post mc ms x1 x2 x3 x4 x6 x7 x8 x9 x10 x11 z0 (if ts_pin x1 then 1 else 0) kc ks) : wL_lawOf_79 post mc ms x1 x2 x3 x4 x6 x7 x8 x9 x10 x11 z0 kc ks := by
  refine br_c (fun h => ?_) (fun h => br_c (fun h' => ?_) (fun h' => ?_))
  · rw [if_neg (fun z => z.1 h)] at H
    exact H
  · rw [if_neg (fun z => z.2 h')] at H
    exact H
  · rw [if_pos ⟨h, h'⟩] at H
    exact H
theorem ts_g96 {post mc ms x1 x2 x3 x4 x6 x7 x8 x9 x10 x11 x12 z0 kc ks} (H : wL_lawOf_118 post mc ms x1 x2 x3 x4 x6 x7 x8 x9 x10 x11 x12 z0 (if ¬ x12 = 0 ∧ ts_pin x3 then 1 else 0) kc ks) : wL_lawOf_96 post mc ms x1 x2 x3 x4 x6 x7 x8 x9 x10 x11 x12 z0 kc ks := by
  refine br_c (fun c => ?_) (fun c => br_c (fun h => ?_) (fun h => br_c (fun h' => ?_) (fun h' => ?_)))
  · rw [if_neg (fun z => z.1 c)] at H
    exact H
  · rw [if_neg (fun z => z.2.1 h)] at H
    exact H
  · rw [if_neg (fun z => z.2.2 h')] at H
    exact H
  · rw [if_pos ⟨c, h, h'⟩] at H
    exact H
theorem ts_g118 {post mc ms x1 x2 x3 x4 x6 x7 x8 x9 x10 x11 x12 x13 z0 kc ks} (H : wL_lawOf_142 post mc ms x1 x2 x3 x4 x6 x7 x8 x9 x10 x11 x12 x13 z0 (if ¬ x12 = 0 ∧ ts_pin x4 then 1 else 0) kc ks) : wL_lawOf_118 post mc ms x1 x2 x3 x4 x6 x7 x8 x9 x10 x11 x12 x13 z0 kc ks := by
  refine br_c (fun c => ?_) (fun c => br_c (fun h => ?_) (fun h => br_c (fun h' => ?_) (fun h' => ?_)))
  · rw [if_neg (fun z => z.1 c)] at H
    exact H
  · rw [if_neg (fun z => z.2.1 h)] at H
    exact H
  · rw [if_neg (fun z => z.2.2 h')] at H
    exact H
  · rw [if_pos ⟨c, h, h'⟩] at H
    exact H
theorem ts_g142 {post mc ms x1 x2 x3 x4 x6 x7 x8 x9 x10 x11 x12 x13 x14 z0 kc ks} (H : wL_lawOf_168 post mc ms x1 x2 x3 x4 x6 x7 x8 x9 x10 x11 x12 x14 z0 (if ¬ x12 = 0 ∧ ¬ x13 = 0 ∧ ¬ x2 < 0 ∧ ¬ 1 < x2 then 1 else 0) kc ks) : wL_lawOf_142 post mc ms x1 x2 x3 x4 x6 x7 x8 x9 x10 x11 x12 x13 x14 z0 kc ks := by
  refine br_c (fun c => ?_) (fun c => br_c (fun d => ?_) (fun d => br_c (fun h => ?_) (fun h => br_c (fun h' => ?_) (fun h' => ?_))))
  · rw [if_neg (fun z => z.1 c)] at H
    exact H
  · rw [if_neg (fun z => z.2.1 d)] at H
    exact H
  · rw [if_neg (fun z => z.2.2.1 h)] at H
    exact H
  · rw [if_neg (fun z => z.2.2.2 h')] at H
    exact H
  · rw [if_pos ⟨c, d, h, h'⟩] at H
    exact H
theorem ts_g168 {post mc ms x1 x2 x3 x4 x6 x7 x8 x9 x10 x11 x12 x14 x15 z0 kc ks} (H : wL_lawOf_185 post mc ms x1 x3 x4 x6 x7 x8 x9 x10 x11 x12 x14 x15 z0 (if ¬ z0 = 0 ∧ x2 = 1 then 1 else 0) kc ks) : wL_lawOf_168 post mc ms x1 x2 x3 x4 x6 x7 x8 x9 x10 x11 x12 x14 x15 z0 kc ks := by
  refine br_c (fun c => ?_) (fun c => br_c (fun h => ?_) (fun h => ?_))
  · rw [if_neg (fun z => z.1 c)] at H
    exact H
  · rw [if_pos ⟨c, h⟩] at H
    exact H
  · rw [if_neg (fun z => h z.2)] at H
    exact H
theorem ts_g185 {post mc ms x1 x3 x4 x6 x7 x8 x9 x10 x11 x12 x14 x15 x16 z0 kc ks} (H : wL_lawOf_198 post mc ms x1 x3 x4 x6 x7 x8 x9 x10 x11 x12 x14 x15 x16 z0 (if x4 = 0 then 64 else 0) kc ks) : wL_lawOf_185 post mc ms x1 x3 x4 x6 x7 x8 x9 x10 x11 x12 x14 x15 x16 z0 kc ks := by
  refine br_c (fun c => ?_) (fun c => ?_)
  · rw [if_pos c] at H
    exact H
  · rw [if_neg c] at H
    exact H
theorem ts_g198 {post mc ms x1 x3 x4 x6 x7 x8 x9 x10 x11 x12 x14 x15 x16 x17 z0 kc ks} (H : wL_lawOf_240 post mc ms x1 x3 x4 x6 x7 x8 x9 x10 x11 x12 x14 x15 x16 x17 (if x17 = 0 then z0 else (z0 - 2) + 4 * ts_par ((x4 &&& x1) &&& 63)) kc ks) : wL_lawOf_198 post mc ms x1 x3 x4 x6 x7 x8 x9 x10 x11 x12 x14 x15 x16 x17 z0 kc ks := by
  refine br_c (fun c => ?_) (fun c => ?_)
  · rw [if_pos c] at H
    exact br_t c H
  · rw [if_neg c] at H
    exact br_f c (nm_e (nm_e H))
theorem ts_g240 {post mc ms x1 x3 x4 x6 x7 x8 x9 x10 x11 x12 x14 x15 x16 x17 z0 kc ks} (H : wL_lawOf_299 post mc ms x1 x3 x4 x6 x7 x8 x9 x10 x11 x12 x14 x15 x16 x17 z0 (if x15 = 0 then 0 else ts_many x4) kc ks) : wL_lawOf_240 post mc ms x1 x3 x4 x6 x7 x8 x9 x10 x11 x12 x14 x15 x16 x17 z0 kc ks := by
  refine nm_e (br_c (fun c => ?_) (fun c => ?_))
  · rw [if_pos c] at H
    exact H
  · rw [if_neg c] at H
    exact H
theorem ts_g299 {post mc ms x1 x3 x4 x6 x7 x8 x9 x10 x11 x12 x14 x15 x16 x17 x20 z0 kc ks} (H : wL_lawOf_320 post mc ms x1 x3 x6 x7 x8 x9 x10 x11 x12 x14 x15 x16 x17 x20 z0 (if ¬ x17 = 0 ∧ x4 &&& (x1 ^^^ (-1)) = 0 then 1 else 0) kc ks) : wL_lawOf_299 post mc ms x1 x3 x4 x6 x7 x8 x9 x10 x11 x12 x14 x15 x16 x17 x20 z0 kc ks := by
  refine br_c (fun c => ?_) (fun c => br_c (fun h => ?_) (fun h => ?_))
  · rw [if_neg (fun z => z.1 c)] at H
    exact H
  · rw [if_pos ⟨c, h⟩] at H
    exact H
  · rw [if_neg (fun z => h z.2)] at H
    exact H
theorem ts_g487 {mc ms z0 z1 kc ks} (h : z1 = z0) : wL_lawOf_487 (fun r _ => r = 1) mc ms z0 z1 kc ks := br_t h rfl
theorem ts_g445 {mc ms x11 x15 x17 x22 x23 z0 z1 kc ks} (h : z1 = z0) (h11 : x11 = if x15 = 0 then -1000 else if x23 = 0 then (if x17 = 0 then x22 else x22 + 1) else x22 - 1) : wL_lawOf_445 (fun r _ => r = 1) mc ms x11 x15 x17 x22 x23 z0 z1 kc ks :=
  br_t h (br_c (fun c => ts_g487 (by rw [h11, if_pos c])) (fun c => br_c (fun d => br_c (fun e => ts_g487 (by rw [h11, if_neg c, if_pos d, if_pos e])) (fun e => ts_g487 (by rw [h11, if_neg c, if_pos d, if_neg e]))) (fun d => ts_g487 (by rw [h11, if_neg c, if_neg d]))))
theorem ts_g419 {mc ms x10 x11 x12 x15 x17 x22 x23 z0 z1 kc ks} (h : z1 = z0) (h10 : x10 = if x12 = 0 then -1000 else if x17 = 0 then 0 else 1) (h11 : x11 = if x15 = 0 then -1000 else if x23 = 0 then (if x17 = 0 then x22 else x22 + 1) else x22 - 1) : wL_lawOf_419 (fun r _ => r = 1) mc ms x10 x11 x12 x15 x17 x22 x23 z0 z1 kc ks :=
  br_t h (br_c (fun c => ts_g445 (by rw [h10, if_pos c]) h11) (fun c => br_c (fun d => ts_g445 (by rw [h10, if_neg c, if_pos d]) h11) (fun d => ts_g445 (by rw [h10, if_neg c, if_neg d]) h11)))
theorem ts_g401 {mc ms x9 x10 x11 x12 x15 x17 x20 x22 x23 z0 z1 kc ks} (h : z1 = z0) (h9 : x9 = if x15 = 0 then -1000 else x20) (h10 : x10 = if x12 = 0 then -1000 else if x17 = 0 then 0 else 1) (h11 : x11 = if x15 = 0 then -1000 else if x23 = 0 then (if x17 = 0 then x22 else x22 + 1) else x22 - 1) : wL_lawOf_401 (fun r _ => r = 1) mc ms x9 x10 x11 x12 x15 x17 x20 x22 x23 z0 z1 kc ks :=
  br_t h (br_c (fun c => ts_g419 (by rw [h9, if_pos c]) h10 h11) (fun c => ts_g419 (by rw [h9, if_neg c]) h10 h11))
theorem ts_g367 {mc ms x1 x3 x8 x9 x10 x11 x12 x14 x15 x17 x20 x22 x23 z0 z1 kc ks} (h : z1 = z0) (h8 : x8 = if x14 = 0 then -1000 else if ¬ x17 = 0 ∧ x1 &&& (x3 ^^^ (-1)) = 0 then 1 else 0) (h9 : x9 = if x15 = 0 then -1000 else x20) (h10 : x10 = if x12 = 0 then -1000 else if x17 = 0 then 0 else 1) (h11 : x11 = if x15 = 0 then -1000 else if x23 = 0 then (if x17 = 0 then x22 else x22 + 1) else x22 - 1) : wL_lawOf_367 (fun r _ => r = 1) mc ms x1 x3 x8 x9 x10 x11 x12 x14 x15 x17 x20 x22 x23 z0 z1 kc ks :=
  br_t h (br_c (fun c => ts_g401 (by rw [h8, if_pos c]) h9 h10 h11) (fun c => br_c (fun d => ts_g401 (by rw [h8, if_neg c, if_neg (fun z => z.1 d)]) h9 h10 h11) (fun d => br_c (fun e => ts_g401 (by rw [h8, if_neg c, if_pos ⟨d, e⟩]) h9 h10 h11) (fun e => ts_g401 (by rw [h8, if_neg c, if_neg (fun z => e z.2)]) h9 h10 h11))))
theorem ts_g336 {mc ms x1 x3 x7 x8 x9 x10 x11 x12 x14 x15 x17 x20 x22 x23 z0 z1 kc ks} (h : z1 = z0) (h7 : x7 = if x14 = 0 then -1000 else if ¬ x17 = 0 ∧ x3 = x1 then 1 else 0) (h8 : x8 = if x14 = 0 then -1000 else if ¬ x17 = 0 ∧ x1 &&& (x3 ^^^ (-1)) = 0 then 1 else 0) (h9 : x9 = if x15 = 0 then -1000 else x20) (h10 : x10 = if x12 = 0 then -1000 else if x17 = 0 then 0 else 1) (h11 : x11 = if x15 = 0 then -1000 else if x23 = 0 then (if x17 = 0 then x22 else x22 + 1) else x22 - 1) : wL_lawOf_336 (fun r _ => r = 1) mc ms x1 x3 x7 x8 x9 x10 x11 x12 x14 x15 x17 x20 x22 x23 z0 z1 kc ks :=
  br_t h (br_c (fun c => ts_g367 (by rw [h7, if_pos c]) h8 h9 h10 h11) (fun c => br_c (fun d => ts_g367 (by rw [h7, if_neg c, if_neg (fun z => z.1 d)]) h8 h9 h10 h11) (fun d => br_c (fun e => ts_g367 (by rw [h7, if_neg c, if_pos ⟨d, e⟩]) h8 h9 h10 h11) (fun e => ts_g367 (by rw [h7, if_neg c, if_neg (fun z => e z.2)]) h8 h9 h10 h11))))
theorem ts_g320 {mc ms x1 x3 x6 x7 x8 x9 x10 x11 x12 x14 x15 x16 x17 x20 x22 z0 kc ks} (h6 : x6 = if x16 = 0 then -1000 else 0) (h7 : x7 = if x14 = 0 then -1000 else if ¬ x17 = 0 ∧ x3 = x1 then 1 else 0) (h8 : x8 = if x14 = 0 then -1000 else if ¬ x17 = 0 ∧ x1 &&& (x3 ^^^ (-1)) = 0 then 1 else 0) (h9 : x9 = if x15 = 0 then -1000 else x20) (h10 : x10 = if x12 = 0 then -1000 else if x17 = 0 then 0 else 1) (h11 : x11 = if x15 = 0 then -1000 else if z0 = 0 then (if x17 = 0 then x22 else x22 + 1) else x22 - 1) : wL_lawOf_320 (fun r _ => r = 1) mc ms x1 x3 x6 x7 x8 x9 x10 x11 x12 x14 x15 x16 x17 x20 x22 z0 kc ks :=
  br_c (fun c => ts_g336 (by rw [h6, if_pos c]) h7 h8 h9 h10 h11) (fun c => ts_g336 (by rw [h6, if_neg c]) h7 h8 h9 h10 h11)
end
section
/-! the top -/
theorem ts_z0 {p : Prop} {d : Decidable p} : ((if p then (1 : Int32) else 0) = 0) = ¬ p := by
  by_cases h : p
  · rw [if_pos h]
    exact propext ⟨fun z => absurd z (by decide), fun z => absurd h z⟩
  · rw [if_neg h]
    exact propext ⟨fun _ => h, fun _ => rfl⟩
theorem ts_tree {mc ms kc ks : Nat} (t x v u a : Int32) : wL_lawOf_79 (fun r _ => r = 1) mc ms x v u a (if ts_set t x v then 0 else -1000)
    (if ts_tin t ∧ ts_pin u then (if ts_one t x v ∧ u = x then 1 else 0) else -1000)
    (if ts_tin t ∧ ts_pin u then (if ts_one t x v ∧ x &&& (u ^^^ (-1)) = 0 then 1 else 0) else -1000)
    (if ts_tin t ∧ ts_pin a then (if ts_one t x v then ((if a = 0 then 64 else 0) - 2) + 4 * ts_par ((a &&& x) &&& 63) else (if a = 0 then 64 else 0)) else -1000)
    (if ts_tin t then (if ts_one t x v then 1 else 0) else -1000)
    (if ts_tin t ∧ ts_pin a then (if ts_one t x v then (if a &&& (x ^^^ (-1)) = 0 then ts_many a - 1 else ts_many a + 1) else ts_many a) else -1000)
    (if ts_tin t then 1 else 0) kc ks := by
  have n10 : ¬ (1 : Int32) = 0 := by decide
  have z00 : (0 : Int32) = 0 := rfl
  have e14 : (if ¬ (if ts_tin t then (1 : Int32) else 0) = 0 ∧ ts_pin u then (1 : Int32) else 0) = if ts_tin t ∧ ts_pin u then 1 else 0 := by simp only [ts_z0, Classical.not_not]
  have e15 : (if ¬ (if ts_tin t then (1 : Int32) else 0) = 0 ∧ ts_pin a then (1 : Int32) else 0) = if ts_tin t ∧ ts_pin a then 1 else 0 := by simp only [ts_z0, Classical.not_not]
  have e16 : (if ¬ (if ts_tin t then (1 : Int32) else 0) = 0 ∧ ¬ (if ts_pin x then (1 : Int32) else 0) = 0 ∧ ¬ v < 0 ∧ ¬ 1 < v then (1 : Int32) else 0) = if ts_set t x v then 1 else 0 := by simp only [ts_z0, Classical.not_not]
  have e17 : (if ¬ (if ts_set t x v then (1 : Int32) else 0) = 0 ∧ v = 1 then (1 : Int32) else 0) = if ts_one t x v then 1 else 0 := by simp only [ts_z0, Classical.not_not]
  refine ts_g79 (ts_g96 (ts_g118 (ts_g142 ?_)))
  rw [e14, e15, e16]
  refine ts_g168 ?_
  rw [e17]
  refine ts_g185 (ts_g198 (ts_g240 (ts_g299 (ts_g320 ?_ ?_ ?_ ?_ ?_ ?_))))
  · by_cases h : ts_set t x v
    · rw [if_pos h, if_pos h, if_neg n10]
    · rw [if_neg h, if_neg h, if_pos z00]
  · by_cases h : ts_tin t ∧ ts_pin u
    · rw [if_pos h, if_pos h, if_neg n10]
      simp only [ts_z0, Classical.not_not]
    · rw [if_neg h, if_neg h, if_pos z00]
  · by_cases h : ts_tin t ∧ ts_pin u
    · rw [if_pos h, if_pos h, if_neg n10]
      simp only [ts_z0, Classical.not_not]
    · rw [if_neg h, if_neg h, if_pos z00]
  · by_cases h : ts_tin t ∧ ts_pin a
    · rw [if_pos h, if_pos h, if_neg n10]
      by_cases o : ts_one t x v
      · rw [if_pos o, if_pos o, if_neg n10]
      · rw [if_neg o, if_neg o, if_pos z00]
    · rw [if_neg h, if_neg h, if_pos z00]
  · by_cases h : ts_tin t
    · rw [if_pos h, if_pos h, if_neg n10]
      by_cases o : ts_one t x v
      · rw [if_pos o, if_neg n10]
      · rw [if_neg o, if_pos z00]
    · rw [if_neg h, if_neg h, if_pos z00]
  · by_cases h : ts_tin t ∧ ts_pin a
    · rw [if_pos h, if_pos h, if_neg n10, if_neg n10]
      by_cases o : ts_one t x v
      · rw [if_pos o, if_pos o]
        by_cases c : a &&& (x ^^^ (-1)) = 0
        · have hp : ¬ (1 : Int32) = 0 ∧ a &&& (x ^^^ (-1)) = 0 := ⟨n10, c⟩
          rw [if_pos c, if_pos hp, if_neg n10]
        · have hp : ¬ (¬ (1 : Int32) = 0 ∧ a &&& (x ^^^ (-1)) = 0) := fun z => c z.2
          rw [if_neg c, if_neg hp, if_pos z00, if_neg n10]
      · have hp : ¬ (¬ (0 : Int32) = 0 ∧ a &&& (x ^^^ (-1)) = 0) := fun z => z.1 z00
        rw [if_neg o, if_neg o, if_neg hp, if_pos z00, if_pos z00]
    · rw [if_neg h, if_neg h, if_pos z00]
theorem ts_lawOf (t x v u a : Int32) : wpL_lawOf (fun r _ => r = 1) 52 816 () t x v u a := by
  unfold wpL_lawOf
  refine ⟨by omega, by omega, 51, 813, by omega, by omega, ts_init (fun a2 hl => ?_)⟩
  refine ts_put (fun a1 hA => ?_)
  refine ts_value hA ?_
  refine ts_form hA hl ?_
  refine ts_spectrum hA (fun s => ?_)
  refine ts_ones hA hl ?_
  refine ts_turn hA hl (fun b => ?_)
  have H := ts_tree (mc := 52) (ms := 816) (kc := 1 + 51) (ks := 3 + 813) t x v u a
  refine br_c (fun h => ?_) (fun h => br_c (fun h' => ?_) (fun h' => ?_))
  · have e : (if ts_tin t then (1 : Int32) else 0) = 0 := if_neg (fun z => z.1 h)
    rw [e] at H
    exact H
  · have e : (if ts_tin t then (1 : Int32) else 0) = 0 := if_neg (fun z => z.2 h')
    rw [e] at H
    exact H
  · have e : (if ts_tin t then (1 : Int32) else 0) = 1 := if_pos ⟨h, h'⟩
    rw [e] at H
    exact H
theorem ts_cell {post : Int32 → Prop} {L : Nat} {xs : Nat → Int32} (hL : L ≤ 5) (i : Nat) (hi : i < 5) (H : ∀ r, post r) : wpL_cellAt post L xs () (nI i) :=
  pk_le L i (fun _ => H _) (fun z => ⟨pk_in i L z rfl (by omega), H _⟩)
theorem i_vc (xs : Nat → Int32) (L : Nat) (hL : L ≤ 5) : wpL_law (fun r => r = 1) L xs := by
  refine ts_cell hL 0 (by omega) (fun t => ts_cell hL 1 (by omega) (fun x => ts_cell hL 2 (by omega) (fun v => ts_cell hL 3 (by omega) (fun u => ts_cell hL 4 (by omega) (fun a => ?_)))))
  exact ⟨52, 816, by omega, by omega, ts_lawOf t x v u a⟩
end
