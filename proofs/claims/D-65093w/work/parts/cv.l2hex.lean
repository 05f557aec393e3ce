/-! LAYER 2: functions of the house: string.format: hex digits -/
def hxc (n : Nat) : Int32 := (if 10 ≤ Int32.ofNat n then 97 + Int32.ofNat n - 10 else 48 + Int32.ofNat n) &&& 255
def hxT : Nat → Nat → List Int32
  | 0, _ => []
  | d + 1, m => hxc (m / 16 ^ d % 16) :: hxT d m
theorem hxT_len : ∀ {d m : Nat}, (hxT d m).length = d
  | 0, _ => rfl
  | d + 1, m => by rw [hxT, List.length_cons, hxT_len]
def isHn (m d : Nat) : Prop := 1 ≤ d ∧ d ≤ 16 ∧ m < 16 ^ d ∧ (d = 1 ∨ 16 ^ (d - 1) ≤ m)
theorem isHn_ex {m : Nat} : ∀ e, 1 ≤ e → e ≤ 16 → m < 16 ^ e → ∃ d, isHn m d
  | 0, h, _, _ => absurd h (by decide)
  | 1, _, _, h => ⟨1, by decide, by decide, h, .inl rfl⟩
  | e + 2, _, h16, h => by
    by_cases c : m < 16 ^ (e + 1)
    · exact isHn_ex (e + 1) (by omega) (by omega) c
    · exact ⟨e + 2, by omega, h16, h, .inr (by rw [show e + 2 - 1 = e + 1 from by omega]; omega)⟩
theorem sh4n : ∀ u, u < 17 → ((Int32.toInt64 (Int32.ofNat (4 * u))).toUInt64 &&& Int64.toUInt64 63).toNat = 4 * u % 64 := by decide +kernel
def vN (v : Int64) : Nat := v.toUInt64.toNat
theorem pow_16 (u : Nat) : 2 ^ (4 * u) = 16 ^ u := by rw [Nat.pow_mul]
theorem shr_n {v : Int64} {u : Nat} (hu : u < 16) : (v.toUInt64 >>> ((Int32.toInt64 (Int32.ofNat (4 * u))).toUInt64 &&& Int64.toUInt64 63)).toNat = vN v / 16 ^ u := by
  rw [UInt64.toNat_shiftRight, sh4n u (by omega), Nat.mod_mod, Nat.mod_eq_of_lt (show 4 * u < 64 by omega), Nat.shiftRight_eq_div_pow, pow_16, vN]
theorem nib_64 {x : UInt64} : x.toInt64 &&& 15 = Int64.ofNat (x.toNat % 16) := by
  apply Int64.toBitVec_inj.mp
  apply BitVec.eq_of_toNat_eq
  rw [Int64.toBitVec_and, BitVec.toNat_and, Int64.toBitVec_ofNat']
  have e : (x.toInt64.toBitVec.toNat &&& (15 : Int64).toBitVec.toNat) = x.toNat % 16 := Nat.and_two_pow_sub_one_eq_mod _ 4
  rw [e, BitVec.toNat_ofNat]
  omega
theorem nib_n {v : Int64} {u : Nat} (hu : u < 16) : (v.toUInt64 >>> ((Int32.toInt64 (Int32.ofNat (4 * u))).toUInt64 &&& Int64.toUInt64 63)).toInt64 &&& 15 = Int64.ofNat (vN v / 16 ^ u % 16) := by
  rw [nib_64, shr_n hu]
theorem ofN_I {n : Nat} (h : n < 16) : (Int64.ofNat n).toInt = n := Int64.toInt_ofNat_of_lt (by omega)
theorem nib_3 {n : Nat} (h : n < 16) : (Int64.ofNat n).toInt32 = Int32.ofNat n := by
  rw [tI_eq, ll_32 (by rw [ofN_I h]; omega), ofN_I h, tI_lit (by omega)]
theorem sub_4 : ∀ u, u < 16 → Int32.ofNat (4 * (u + 1)) + -4 = Int32.ofNat (4 * u) := by decide +kernel
theorem mul_4 : ∀ u, u < 17 → 4 * Int32.ofNat u = Int32.ofNat (4 * u) := by decide +kernel
theorem hxc_255 : ∀ n, n < 16 → hxc n &&& 255 = hxc n := by decide +kernel
/-- the system's -/
theorem hx_30 {N : Nat} {v : Int64} : ∀ (d p n : Nat) (σ : mS) (l : List Int32), d ≤ 16 → d < n → l.length = p → p + d ≤ 100 → hasL (σ.2.2.1 522) 0 l → ∃ τ, xx8_hex_b30 N n v (Int32.ofNat p) (Int32.ofNat (4 * d) + -4) σ = some (Int32.ofNat (p + d), τ) ∧ hasL (τ.2.2.1 522) 0 (l ++ hxT d (vN v)) ∧ m_fr (fun k => k == 522) σ τ := by
  intro d
  induction d with
  | zero =>
    intro p n σ l _ hn hp hl h
    obtain ⟨n, rfl⟩ : ∃ j, n = j + 1 := ⟨n - 1, by omega⟩
    refine ⟨σ, ?_, by rw [hxT, List.append_nil]; exact h, mf_rfl⟩
    rw [xx8_hex_b30, if_pos (show Int32.ofNat (4 * 0) + -4 < 0 by decide)]; rfl
  | succ d ih =>
    intro p n σ l hd hn hp hl h
    obtain ⟨n, rfl⟩ : ∃ j, n = j + 1 := ⟨n - 1, by omega⟩
    have nn : ¬ Int32.ofNat (4 * d) < 0 := fun q => by
      rw [show (0 : Int32) = Int32.ofNat 0 from rfl, oN_lt (by omega) (by omega)] at q; omega
    have m16 : vN v / 16 ^ d % 16 < 16 := Nat.mod_lt _ (by decide)
    have st : ∀ b : Int32, b &&& 255 = hxc (vN v / 16 ^ d % 16) → ∃ τ, xx8_hex_b77 N (xx8_hex_b30 N n) v (Int32.ofNat p + 1) (Int32.ofNat (4 * d)) (Int32.ofNat p) b σ = some (Int32.ofNat (p + (d + 1)), τ) ∧ hasL (τ.2.2.1 522) 0 (l ++ hxT (d + 1) (vN v)) ∧ m_fr (fun k => k == 522) σ τ := fun b hb => by
      obtain ⟨w1, w2, w3⟩ := wr_1 (b := b.toInt8.toInt32) vB_522 h (by rw [hp]; omega)
      rw [hp, Nat.zero_add, nar8, hb] at w2
      rw [hp, Nat.zero_add] at w3
      obtain ⟨τ, r1, r2, r3⟩ := ih (p + 1) n _ (l ++ [hxc (vN v / 16 ^ d % 16)]) (by omega) (by omega) (by rw [List.length_append, hp]; rfl) (by omega) w2
      refine ⟨τ, ?_, ?_, mf_tr w3.1 r3⟩
      · rw [xx8_hex_b77, gd_oN (by omega) (by decide), oN_cl (by omega), lt, lt, oN_s, r1, show p + 1 + d = p + (d + 1) from by omega]
      · rw [hxT]; rw [List.append_assoc] at r2; exact r2
    rw [sub_4 d (by omega), xx8_hex_b30, if_neg nn, nib_n (by omega), nib_3 m16, lt, lt]
    by_cases c : 10 ≤ Int32.ofNat (vN v / 16 ^ d % 16)
    · rw [if_pos c]
      exact st _ (by rw [hxc, if_pos c])
    · rw [if_neg c]
      exact st _ (by rw [hxc, if_neg c])
theorem hx_6 {N : Nat} {v : Int64} {d : Nat} (hd : isHn (vN v) d) {σ : mS} : ∀ (c u n : Nat), d + c = u + 1 → u < 16 → c < n → xx8_hex_b6 N n v 0 (Int32.ofNat (4 * u)) σ = xx8_hex_b30 N N v 0 (Int32.ofNat (4 * (d - 1))) σ := by
  obtain ⟨d1, d16, dm, dl⟩ := hd
  intro c
  induction c with
  | zero =>
    intro u n hc hu hn
    obtain ⟨n, rfl⟩ : ∃ j, n = j + 1 := ⟨n - 1, by omega⟩
    have e : u = d - 1 := by omega
    rw [e, xx8_hex_b6]
    by_cases c : d = 1
    · subst c; rw [if_pos (show Int32.ofNat (4 * (1 - 1)) ≤ 0 by decide)]
    · have nn : ¬ Int32.ofNat (4 * (d - 1)) ≤ 0 := fun q => by
        rw [show (0 : Int32) = Int32.ofNat 0 from rfl, oN_le (by omega) (by omega)] at q; omega
      have p : 16 ^ d = 16 ^ (d - 1) * 16 := by
        conv => lhs; rw [show d = (d - 1) + 1 from by omega]
        rw [Nat.pow_succ]
      have q1 : vN v / 16 ^ (d - 1) < 16 := by
        rw [Nat.div_lt_iff_lt_mul (Nat.pow_pos (by decide)), Nat.mul_comm, ← p]; exact dm
      have q2 : 1 ≤ vN v / 16 ^ (d - 1) := by
        rw [Nat.le_div_iff_mul_le (Nat.pow_pos (by decide)), Nat.one_mul]; exact dl.resolve_left c
      rw [if_neg nn, nib_n (by omega), if_neg (fun q => by
        have := lgc_eq.mp q
        rw [L_eq, ofN_I (Nat.mod_lt _ (by decide)), Nat.mod_eq_of_lt q1] at this
        have z : (0 : Int64).toInt = 0 := rfl
        omega)]
  | succ c ih =>
    intro u n hc hu hn
    obtain ⟨n, rfl⟩ : ∃ j, n = j + 1 := ⟨n - 1, by omega⟩
    have nn : ¬ Int32.ofNat (4 * u) ≤ 0 := fun q => by
      rw [show (0 : Int32) = Int32.ofNat 0 from rfl, oN_le (by omega) (by omega)] at q; omega
    have z0 : vN v / 16 ^ u = 0 := Nat.div_eq_of_lt (Nat.lt_of_lt_of_le dm (Nat.pow_le_pow_right (by decide) (by omega)))
    have s := sub_4 (u - 1) (by omega)
    rw [show u - 1 + 1 = u from by omega] at s
    rw [xx8_hex_b6, if_neg nn, nib_n (by omega), z0, if_pos (show lg_cmp (Int64.ofNat (0 % 16)) 0 = 0 by decide), lt, s]
    exact ih (u - 1) n (by omega) (by omega) (by omega)
theorem hex_x {N : Nat} (big : 10000 < N) {v : Int64} {d : Nat} (hd : isHn (vN v) d) {σ : mS} : ∃ τ, xx8_hex N σ v = some (Int32.ofNat (hxT d (vN v)).length, τ) ∧ hasL (τ.2.2.1 522) 0 (hxT d (vN v)) ∧ m_fr (fun k => k == 522) σ τ := by
  have h1 := hd.1
  have h2 := hd.2.1
  have e : xx8_hex N σ v = xx8_hex_b30 N N v 0 (Int32.ofNat (4 * (d - 1))) σ := hx_6 hd (16 - d) 15 N (by omega) (by omega) (by omega)
  obtain ⟨τ, r1, r2, r3⟩ := hx_30 (N := N) (v := v) d 0 N σ [] (by omega) (by omega) rfl (by omega) hasL_nil
  have s := sub_4 (d - 1) (by omega)
  rw [show d - 1 + 1 = d from by omega] at s
  rw [s, Nat.zero_add] at r1
  rw [List.nil_append] at r2
  exact ⟨τ, by rw [e, hxT_len]; exact r1, r2, r3⟩
/-- the reference's -/
theorem hm_66 {N : Nat} {v : Int64} : ∀ (d n : Nat) (μ : mS) (acc : List Int32), d ≤ 16 → d < n → bufL μ acc → acc.length + d ≤ 20000 → ∃ τ, mm_putAs_66 N n v (Int32.ofNat d - 1) μ = some τ ∧ bufL τ (acc ++ hxT d (vN v)) ∧ m_fr bK μ τ := by
  intro d
  induction d with
  | zero =>
    intro n μ acc _ hn hb ha
    obtain ⟨n, rfl⟩ : ∃ j, n = j + 1 := ⟨n - 1, by omega⟩
    refine ⟨μ, ?_, by rw [hxT, List.append_nil]; exact hb, mf_rfl⟩
    rw [mm_putAs_66, if_pos (show Int32.ofNat 0 - 1 < 0 by decide)]; rfl
  | succ d ih =>
    intro n μ acc hd hn hb ha
    obtain ⟨n, rfl⟩ : ∃ j, n = j + 1 := ⟨n - 1, by omega⟩
    have nn : ¬ Int32.ofNat d < 0 := fun q => by
      rw [show (0 : Int32) = Int32.ofNat 0 from rfl, oN_lt (by omega) (by omega)] at q; omega
    have m16 : vN v / 16 ^ d % 16 < 16 := Nat.mod_lt _ (by decide)
    have st : ∀ b : Int32, b &&& 255 = hxc (vN v / 16 ^ d % 16) → ∃ τ, mm_putAs_108 N (mm_putAs_66 N n) v (Int32.ofNat d) b μ = some τ ∧ bufL τ (acc ++ hxT (d + 1) (vN v)) ∧ m_fr bK μ τ := fun b hb' => by
      obtain ⟨y, s1, s2, s3⟩ := put_m (N := N) (b := b) hb (by omega)
      rw [hb'] at s2
      obtain ⟨τ, r1, r2, r3⟩ := ih n y _ (by omega) (by omega) s2 (by rw [List.length_append, List.length_singleton]; omega)
      refine ⟨τ, ?_, ?_, mf_tr s3 r3⟩
      · rw [mm_putAs_108, s1, bd_so, lt, show Int32.ofNat d + -1 = Int32.ofNat d - 1 from (Int32.sub_eq_add_neg _ _).symm]; exact r1
      · rw [hxT]; rw [List.append_assoc] at r2; exact r2
    rw [on_1, mm_putAs_66, if_neg nn, mul_4 d (by omega), nib_n (by omega), nib_3 m16, lt]
    by_cases c : 10 ≤ Int32.ofNat (vN v / 16 ^ d % 16)
    · rw [if_pos c]
      exact st _ (by rw [hxc, if_pos c])
    · rw [if_neg c]
      exact st _ (by rw [hxc, if_neg c])
theorem hm_36 {N : Nat} {v : Int64} {d : Nat} (hd : isHn (vN v) d) {μ : mS} : ∀ (c u n : Nat), u + c = d → 1 ≤ u → c < n → mm_putAs_36 N n v (Int32.ofNat u) μ = mm_putAs_66 N N v (Int32.ofNat d - 1) μ := by
  obtain ⟨d1, d16, dm, dl⟩ := hd
  have i0 : ∀ x : UInt64, x.toInt64 = 0 ↔ x.toNat = 0 := fun x => by
    constructor
    · intro h
      have := congrArg Int64.toUInt64 h
      rw [UInt64.toUInt64_toInt64] at this
      rw [this]; rfl
    · intro h
      have : x = 0 := UInt64.toNat_inj.mp (by rw [h]; rfl)
      rw [this]; rfl
  intro c
  induction c with
  | zero =>
    intro u n hc hu hn
    obtain ⟨n, rfl⟩ : ∃ j, n = j + 1 := ⟨n - 1, by omega⟩
    have e : u = d := by omega
    subst e
    rw [mm_putAs_36]
    by_cases c : u = 16
    · subst c; rw [if_pos (show (16 : Int32) ≤ Int32.ofNat 16 by decide), mm_putAs_60, lt]
    · rw [if_neg (fun q => by rw [show (16 : Int32) = Int32.ofNat 16 from rfl, oN_le (by omega) (by omega)] at q; omega), mul_4 u (by omega), if_pos (lgc_eq.mpr ((i0 _).mpr (by rw [shr_n (by omega)]; exact Nat.div_eq_of_lt dm))), mm_putAs_60, lt]
  | succ c ih =>
    intro u n hc hu hn
    obtain ⟨n, rfl⟩ : ∃ j, n = j + 1 := ⟨n - 1, by omega⟩
    have lb : 16 ^ (d - 1) ≤ vN v := dl.resolve_left (by omega)
    have q : 1 ≤ vN v / 16 ^ u := by
      rw [Nat.le_div_iff_mul_le (Nat.pow_pos (by decide)), Nat.one_mul]
      exact Nat.le_trans (Nat.pow_le_pow_right (by decide) (by omega)) lb
    rw [mm_putAs_36, if_neg (fun q => by rw [show (16 : Int32) = Int32.ofNat 16 from rfl, oN_le (by omega) (by omega)] at q; omega), mul_4 u (by omega), if_neg (fun h => by
      have := (i0 _).mp (lgc_eq.mp h)
      rw [shr_n (by omega)] at this
      omega), lt, oN_s]
    exact ih (u + 1) n (by omega) (by omega) (by omega)
theorem hex_m {N : Nat} (big : 10000 < N) {v : Int64} {d : Nat} (hd : isHn (vN v) d) {μ : mS} {acc : List Int32} (hb : bufL μ acc) (ha : acc.length ≤ 10000) : ∃ τ, mm_putAs N μ 120 v = some τ ∧ bufL τ (acc ++ hxT d (vN v)) ∧ m_fr bK μ τ := by
  have h1 := hd.1
  have h2 := hd.2.1
  obtain ⟨τ, r1, r2, r3⟩ := hm_66 (N := N) (v := v) d N μ acc (by omega) (by omega) hb (by omega)
  have e : mm_putAs_36 N N v 1 μ = mm_putAs_66 N N v (Int32.ofNat d - 1) μ := hm_36 hd (d - 1) 1 N (by omega) (by omega) (by omega)
  refine ⟨τ, ?_, r2, r3⟩
  rw [mm_putAs, if_neg (by decide), if_neg (by decide), e]; exact r1
theorem vN_hn (v : Int64) : ∃ d, isHn (vN v) d := isHn_ex 16 (by decide) (by decide) (by
  have := v.toUInt64.toNat_lt
  rw [vN]
  exact Nat.lt_of_lt_of_le this (by decide))
