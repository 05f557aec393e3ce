/-! LAYER 2: the reference's collector: the whole -/
theorem CX_sz {σ : mS} {o f : List Int32} (H : CX σ o f) {x : Int32} (hx : x ∈ o) : 0 ≤ sI σ 224 x ∧ sI σ 224 x ≤ 12000 := by
  obtain ⟨_, _, a, b, c, d, e⟩ := CX_mem H hx
  clear H hx
  exact ⟨b, by lia⟩
theorem tot_S {w : WD} {σ μ : mS} (R : RS w σ μ) : szs μ ((wS w).map Prod.snd) ≤ 300000 := by
  obtain ⟨⟨fsx, SXx⟩, _, _, _, _, RSE, _, _⟩ := R
  have h1 := psum (f := fun x => (x_sz σ x).toInt) (g := fun x => (sI μ 3 x).toInt) (l := wS w) (fun a b h => by
    have := (RSE a b (.inl h)).1
    show (x_sz σ a).toInt = (m_sz μ b).toInt
    rw [this])
  have h2 := lay_sm SXx.2.1 (by decide) (by decide)
  have h4 := tI_le.mp (SX_top SXx).2.1
  rw [show (300000 : Int32).toInt = 300000 from rfl] at h4
  rw [show (0 : Int32).toInt = 0 from rfl] at h2
  have h5 : szs μ ((wS w).map Prod.snd) = (((wS w).map Prod.snd).map (fun x => (sI μ 3 x).toInt)).sum := rfl
  have h6 : ((((wS w).map Prod.fst).map (fun x => (x_sz σ x).toInt)).sum : Int) = (((wS w).map Prod.fst).map (fun x => (sI σ 129 x).toInt)).sum := rfl
  rw [h5, ← h1, h6]
  clear RSE SXx h1 h5 h6
  omega
theorem sub_S {w : WD} {σ μ : mS} (R : RS w σ μ) {l : List Int32} (nd : l.Nodup) (hl : ∀ x, x ∈ l → x ∈ (wS w).map Prod.snd) : szs μ l ≤ 300000 := by
  have t := tot_S R
  obtain ⟨_, _, SMx, _⟩ := R
  have := sumsub (f := fun b => (sI μ 3 b).toInt) nd hl (fun x hx => tI_le.mp (SM_mem SMx hx).1.2.2.2.1)
  simp only [szs] at t ⊢
  exact Int.le_trans this t
theorem tot_F {K : Int32 → Int32 → Int32 → Prop} {w : WD} {σ μ : mS} (R : RF K w σ μ) (P : PRK w) (hK : ∀ g b n, K g b n → sI μ 81 b = n) : cps μ ((wF w).map Prod.snd) ≤ 12000 := by
  have h1 := psum (f := fun x => (sI σ 224 x).toInt) (g := fun x => (capN μ x).toInt) (l := wF w) (fun a b h => by
    show (sI σ 224 a).toInt = (capN μ b).toInt
    rw [RF_cap R P hK h])
  obtain ⟨⟨fcx, CXx⟩, CMx, s52, _⟩ := R
  have h2 := lay_sm CXx.2 (by decide) (by decide)
  have h4 := tI_le.mp CMx.2.2.2
  rw [← s52, show (12000 : Int32).toInt = 12000 from rfl] at h4
  rw [show (0 : Int32).toInt = 0 from rfl] at h2
  simp only [cps]
  rw [← h1]
  clear h1 CXx CMx s52
  omega
theorem sub_F {K : Int32 → Int32 → Int32 → Prop} {w : WD} {σ μ : mS} (R : RF K w σ μ) (P : PRK w) (hK : ∀ g b n, K g b n → sI μ 81 b = n) {l : List Int32} (nd : l.Nodup) (hl : ∀ x, x ∈ l → x ∈ (wF w).map Prod.snd) : cps μ l ≤ 12000 := by
  have t := tot_F R P hK
  have := sumsub (f := fun b => (capN μ b).toInt) nd hl (fun x hx => by
    obtain ⟨⟨a, b'⟩, h, rfl⟩ := List.mem_map.mp hx
    obtain ⟨⟨fcx, CXx⟩, _⟩ := id R
    have := tI_le.mp (CX_sz CXx (List.mem_map.mpr ⟨_, h, rfl⟩)).1
    show 0 ≤ (capN μ b').toInt
    rw [RF_cap R P hK h]
    exact this)
  simp only [cps] at t ⊢
  exact Int.le_trans this t
theorem CO_b {S : SR} {w : WD} {xf : Int32 → List Int32} {σ μ : mS} (C : CO S w xf [] σ μ) (cnt : sF σ 358 = sF μ 155 ∧ 0 ≤ sF σ 358 ∧ sF σ 358 ≤ 200) : (0 ≤ sF μ 171 ∧ sF μ 171 ≤ 120) ∧ (0 ≤ sF μ 155 ∧ sF μ 155 ≤ 1000) ∧ (∀ d, 0 ≤ d → d < 120 → sI μ 170 d ≠ 0 → 0 ≤ sI μ 166 d ∧ sI μ 166 d ≤ 500) := by
  obtain ⟨cw, cd, ⟨fcs, _, _, _, c4⟩, ⟨_, c6⟩, _⟩ := C
  refine ⟨?_, ?_, fun d d0 d1 hd => ?_⟩
  · have wl : (wC w).length ≤ 120 := by
      rw [List.length_append, List.length_map] at c4
      omega
    rw [tI_le, tI_le, c6, show (0 : Int32).toInt = 0 from rfl, show (120 : Int32).toInt = 120 from rfl]
    omega
  · rw [← cnt.1]
    exact ⟨cnt.2.1, Int32.le_trans cnt.2.2 (by decide)⟩
  · have hm : d ∈ (wC w).map Prod.snd := Decidable.byContradiction (fun q => hd (cd d d0 d1 q))
    obtain ⟨⟨c, d'⟩, h, rfl⟩ := List.mem_map.mp hm
    rcases (cw c d' h).2.2.2.2 with q | q
    · exact absurd q (by simp)
    · rcases q with ⟨_, _, _, q, _⟩ | ⟨_, _, _, _, _, q, _⟩ | ⟨_, _, _, _, _, q, q'⟩
      · show 0 ≤ sI μ 166 d' ∧ sI μ 166 d' ≤ 500
        rw [q]; exact ⟨by decide, by decide⟩
      · show 0 ≤ sI μ 166 d' ∧ sI μ 166 d' ≤ 500
        rw [q]; exact ⟨by decide, by decide⟩
      · exact ⟨q, Int32.le_trans q' (by decide)⟩
def q2m (k : Nat) : Bool := mmF k || keF k
theorem mm_19 (k : Nat) (h0 : 19 ≤ k) (h1 : k ≤ 41) : mmF k = false := by
  simp only [mmF, List.contains_cons, List.contains_nil, Bool.or_eq_false_iff, beq_eq_false_iff_ne]
  (repeat' (first | exact trivial | omega | apply And.intro))
theorem q2m_S (k : Nat) (hk : k ∈ [2, 3, 4, 7, 10, 12, 13, 14, 15]) : q2m k = false := by
  simp only [List.mem_cons, List.not_mem_nil, or_false] at hk
  simp only [q2m, mmF, keF, Bool.or_eq_false_iff, List.contains_cons, List.contains_nil, Bool.or_eq_false_iff, beq_eq_false_iff_ne]
  (repeat' (first | exact trivial | omega | apply And.intro))
theorem soK_S (k : Nat) (hk : k ∈ [2, 3, 4, 7, 10, 12, 13, 14, 15]) : soK k = false := by
  simp only [List.mem_cons, List.not_mem_nil, or_false] at hk
  simp only [soK, List.contains_cons, List.contains_nil, Bool.or_eq_false_iff, beq_eq_false_iff_ne]
  (repeat' (first | exact trivial | omega | apply And.intro))
theorem ss_so (k : Nat) (h0 : 19 ≤ k) (h1 : k ≤ 41) : (fun k => ssK k || soK k) k = false := by
  simp only [ssK, soK, Bool.or_eq_false_iff, List.contains_cons, List.contains_nil, Bool.or_eq_false_iff, beq_eq_false_iff_ne]
  (repeat' (first | exact trivial | omega | apply And.intro))
theorem RC_2' {S : SR} {K : Int32 → Int32 → Int32 → Prop} {q : Int} {w : WD} {xf : Int32 → List Int32} {σ μ : mS} (H : QU S K q w xf σ μ) (hK : ∀ g b n, K g b n → sI μ 81 b = n) {es es' : Int32 → List Int32} (R : RT w σ μ es es') {o : OB2} (h : RCM μ es' o) : ∃ o', PR w o' o ∧ RCX σ es xf o' := RC_2 H hK R h
theorem collect_m {N : Nat} (hN : BIG ≤ N) {S : SR} {K : Int32 → Int32 → Int32 → Prop} {q : Int} {w : WD} {xf : Int32 → List Int32} {σ μ : mS} (H : QU S K q w xf σ μ) (hK : ∀ g b n, K g b n → sI μ 81 b = n) (hK2 : ∀ g b n, K g b n → b < 9000) {es es' : Int32 → List Int32} (R : RT w σ μ es es') : ∃ μ', mm_collect N μ = some μ' ∧ SWM μ μ' w es' (RCM μ es') := by
  obtain ⟨CEm, SHm⟩ := QU_M H hK hK2 R
  obtain ⟨μ1, e1, m1, m01, mR⟩ := marks_m hN CEm SHm
  obtain ⟨⟨⟨W, RSx, _, RFx, RBx, _⟩, _⟩, _, _, _, _, COx, cnt⟩ := id H
  have PK := (RH_PRK H.1.1 (fun a b h => (COx.1 a b h).1)).1
  -- tables
  obtain ⟨_, _, ⟨psm, M⟩, F, RE⟩ := id R
  have M1 : MM μ1 (tM w) es' psm := MM_st M m1 mm_19 (fun t ht e he h3 => by
    refine ⟨?_, mf_I m1 rfl, mf_I m1 rfl, fun k _ _ => m_by_f m1 rfl rfl rfl⟩
    exact (mf_M m1 ⟨rfl, rfl, rfl, rfl, rfl⟩).1 _ |>.mpr (((M.1.1 t ht e he).2.2.2).2.2 h3))
  have ho2 : ∀ k, 0 ≤ k → k < 3000 → sI μ1 233 k = 1 → k ∈ tM w := fun k k0 k1 h => by
    have ok : okm (2, k) := .inr (.inl ⟨rfl, k0, k1⟩)
    obtain ⟨o', p, _⟩ := RC_2' H hK R ((mR (2, k) ok).mp h)
    exact PRm_2 p
  have hm2 : ∀ k, 0 ≤ k → k < 3000 → sI μ1 233 k = 0 ∨ sI μ1 233 k = 1 := fun k k0 k1 => m01 (2, k) (.inr (.inl ⟨rfl, k0, k1⟩))
  obtain ⟨μ2, Mt, ps, e2, M2, F2', mt, f2⟩ := sweepE_m hN M1 ho2 hm2
  have alE : alm μ1 = alm μ := by funext e; simp only [alm, mf_I m1 (k := 34) rfl]
  rw [alE] at M2
  have f02 : m_fr q2m μ μ2 := mf_tr (mf_mono m1 (fun k hk => or_1 hk)) (mf_mono f2 (fun k hk => or_2 hk))
  -- strings
  obtain ⟨⟨fsx, SXx⟩, _, SMx, ⟨bk, TMx⟩, WX, RSE, s141, _⟩ := id RSx
  have SM2 : SM μ2 ((wS w).map Prod.snd) := SM_fr0 SMx f02 q2m_S
  have ho1 : ∀ k, 0 ≤ k → k < 12000 → sI μ2 232 k = 1 → 30000 + k ∈ (wS w).map Prod.snd := fun k k0 k1 h => by
    have b := sh_30 k0 k1
    have ok : okm (1, 30000 + k) := .inl ⟨rfl, b.1⟩
    rw [mf_I f2 rfl] at h
    have hm : mkm μ1 (1, 30000 + k) := by
      show sI μ1 232 (30000 + k - 30000) = 1
      rw [b.2]; exact h
    obtain ⟨o', p, _⟩ := RC_2' H hK R ((mR (1, 30000 + k) ok).mp hm)
    exact PRm_1 p
  have hm1 : ∀ k, 0 ≤ k → k < 12000 → sI μ2 232 k = 0 ∨ sI μ2 232 k = 1 := fun k k0 k1 => by
    have b := sh_30 k0 k1
    have := m01 (1, 30000 + k) (.inl ⟨rfl, b.1⟩)
    rw [mf_I f2 rfl]
    rcases this with h | h
    · left
      have h' : sI μ1 232 (30000 + k - 30000) = 0 := h
      rw [b.2] at h'; exact h'
    · right
      have h' : sI μ1 232 (30000 + k - 30000) = 1 := h
      rw [b.2] at h'; exact h'
  have e3' : ∀ b, sI μ2 3 b = m_sz μ b := fun b => mf_I f02 rfl
  have szE : ∀ l, szs μ2 l = szs μ l := fun l => by simp only [szs, e3']; rfl
  have hs1 : ∀ l : List Int32, l.Nodup → (∀ x, x ∈ l → x ∈ (wS w).map Prod.snd) → szs μ2 l ≤ 300000 := fun l nd hl => by
    rw [szE]
    exact sub_S RSx nd hl
  obtain ⟨μ3, Ms, e3, S3, ms, u3, sm3, s3, f3⟩ := sweepS_m hN SM2 ho1 hm1 hs1
  have f3' : m_fr ssK μ2 μ3 := f3
  have f13 : m_fr (fun k => keF k || ssK k) μ1 μ3 := mf_tr (mf_mono f2 (fun k hk => or_1 hk)) (mf_mono f3' (fun k hk => or_2 hk))
  have f03 : m_fr (fun k => q2m k || ssK k) μ μ3 := mf_tr (mf_mono f02 (fun k hk => or_1 hk)) (mf_mono f3' (fun k hk => or_2 hk))
  -- functions, boxes, coroutines
  obtain ⟨⟨fcx, CXx⟩, CMx, s52, RFE⟩ := id RFx
  have c03 : ∀ b, capN μ3 b = capN μ b := fun b => by simp only [capN, mf_I f03 (k := 45) rfl, mf_I f03 (k := 81) rfl]
  have cpE : ∀ l, cps μ3 l = cps μ l := fun l => by simp only [cps, c03]
  have l224 : ∀ a b, (a, b) ∈ wF w → 0 ≤ sI σ 224 a ∧ sI σ 224 a ≤ 12000 := fun a b h => by
    have ha : a ∈ (wF w).map Prod.fst := List.mem_map.mpr ⟨_, h, rfl⟩
    exact CX_sz CXx ha
  have hf : ∀ b, b ∈ (wF w).map Prod.snd → (0 ≤ sI μ3 46 b ∧ sI μ3 46 b ≤ 12000) ∧ (0 ≤ capN μ3 b ∧ capN μ3 b ≤ 12000) ∧ sI μ3 46 b + capN μ3 b ≤ 12000 ∧ sI μ3 45 b < 9000 := fun b hb => by
    obtain ⟨⟨a, b'⟩, h, rfl⟩ := List.mem_map.mp hb
    obtain ⟨_, q2, q3, q4, _⟩ := RFE a b' h
    rw [mf_I f03 (k := 46) rfl, mf_I f03 (k := 45) rfl, c03, RF_cap RFx PK hK h]
    refine ⟨q2, l224 a b' h, Int32.le_trans q3 CMx.2.2.2, ?_⟩
    rcases q4 with ⟨_, _, kk⟩ | ⟨_, c, d, cd, _, e2⟩
    · exact hK2 _ _ _ kk
    · have pc := PK.2.2.2.2.2 c d cd
      have nd := neg_c pc.2.1 (Int32.lt_trans pc.2.2 (by decide))
      show sI μ 45 b' < 9000
      rw [e2]
      exact Int32.lt_trans nd.1 (by decide)
  have ho3 : ∀ k, 0 ≤ k → k < 4000 → sI μ3 234 k = 1 → 64 + k ∈ (wF w).map Prod.snd := fun k k0 k1 h => by
    have b := sh_64 k0 k1
    have ok : okm (3, 64 + k) := .inr (.inr (.inl ⟨rfl, b.1⟩))
    rw [mf_I f13 rfl] at h
    have hm : mkm μ1 (3, 64 + k) := by
      show sI μ1 234 (64 + k - 64) = 1
      rw [b.2]; exact h
    obtain ⟨o', p, _⟩ := RC_2' H hK R ((mR (3, 64 + k) ok).mp hm)
    exact PRm_3 p
  have hm3 : ∀ k, 0 ≤ k → k < 4000 → sI μ3 234 k = 0 ∨ sI μ3 234 k = 1 := fun k k0 k1 => by
    have b := sh_64 k0 k1
    have := m01 (3, 64 + k) (.inr (.inr (.inl ⟨rfl, b.1⟩)))
    rw [mf_I f13 rfl]
    rcases this with h | h
    · left
      have h' : sI μ1 234 (64 + k - 64) = 0 := h
      rw [b.2] at h'; exact h'
    · right
      have h' : sI μ1 234 (64 + k - 64) = 1 := h
      rw [b.2] at h'; exact h'
  have hs3 : ∀ l : List Int32, l.Nodup → (∀ x, x ∈ l → x ∈ (wF w).map Prod.snd) → cps μ3 l ≤ 12000 := fun l nd hl => by
    rw [cpE]
    exact sub_F RFx PK hK nd hl
  have hm5 : ∀ k, 0 ≤ k → k < 12000 → sI μ3 235 k = 0 ∨ sI μ3 235 k = 1 := fun k k0 k1 => by
    rw [mf_I f13 rfl]
    exact m01 (4, k) (.inr (.inr (.inr (.inl ⟨rfl, k0, k1⟩))))
  obtain ⟨cb1, cb2, cb3⟩ := CO_b COx ⟨cnt.1, cnt.2.1, cnt.2.2.1⟩
  have b1 : 0 ≤ sF μ3 171 ∧ sF μ3 171 ≤ 120 := by rw [mf_F f03 (k := 171) rfl]; exact cb1
  have b2 : 0 ≤ sF μ3 155 ∧ sF μ3 155 ≤ 1000 := by rw [mf_F f03 (k := 155) rfl]; exact cb2
  have b3 : ∀ d, 0 ≤ d → d < 120 → sI μ3 170 d ≠ 0 → 0 ≤ sI μ3 166 d ∧ sI μ3 166 d ≤ 500 := fun d d0 d1 hd => by
    rw [mf_I f03 (k := 170) rfl] at hd
    rw [mf_I f03 (k := 166) rfl]
    exact cb3 d d0 d1 hd
  obtain ⟨μ4, Mf, Mb, D, e4, C4, mf, s4, u4, B4, mb, dn, dm, d170, d166, d164, d171, d155, f4⟩ := sweepO_m hN hf ho3 hm3 hs3 hm5 b1 b2 b3
  have f14 : m_fr (fun k => (keF k || ssK k) || soK k) μ1 μ4 := mf_tr (mf_mono f13 (fun k hk => or_1 hk)) (mf_mono f4 (fun k hk => or_2 hk))
  have f24 : m_fr (fun k => ssK k || soK k) μ2 μ4 := mf_tr (mf_mono f3' (fun k hk => or_1 hk)) (mf_mono f4 (fun k hk => or_2 hk))
  have fAl : m_fr gcM μ μ4 := mf_tr (mf_mono m1 (fun k hk => or_1 hk)) (mf_tr (mf_mono f2 (fun k hk => or_1 (or_2 hk))) (mf_tr (mf_mono f3' (fun k hk => or_1 (or_2 (or_2 hk)))) (mf_mono f4 (fun k hk => or_2 (or_2 (or_2 hk))))))
  have ms' : ∀ b, b ∈ Ms ↔ (30000 ≤ b ∧ b < 42000) ∧ RCM μ es' (1, b) := fun b => by
    rw [ms b]
    refine ⟨fun ⟨k, k0, k1, q, hk⟩ => ?_, fun ⟨⟨h0, h1⟩, h⟩ => ?_⟩
    · have s := sh_30 k0 k1
      rw [q]
      refine ⟨s.1, (mR (1, 30000 + k) (.inl ⟨rfl, s.1⟩)).mp ?_⟩
      show sI μ1 232 (30000 + k - 30000) = 1
      rw [s.2, ← mf_I f2 (k := 232) rfl]; exact hk
    · have s := sh_30' h0 h1
      refine ⟨b - 30000, s.1.1, s.1.2, s.2, ?_⟩
      have := (mR (1, b) (.inl ⟨rfl, h0, h1⟩)).mpr h
      rw [mf_I f2 rfl]; exact this
  have smX : ∀ b, 0 ≤ b → b < 30000 → m_sm μ μ4 b := fun b h0 h1 => by
    obtain ⟨a1, a2, a3, a4⟩ := sm3 b h0 h1
    have q2 : sI μ2 2 b = sI μ 2 b := mf_I f02 rfl
    have q3 : sI μ2 3 b = sI μ 3 b := mf_I f02 rfl
    have q4 : sI μ2 4 b = sI μ 4 b := mf_I f02 rfl
    refine ⟨by rw [mf_I f4 rfl, a1, q2], by rw [mf_I f4 rfl, a2, q3], by rw [mf_I f4 rfl, a3, q4], fun k k0 k1 => ?_⟩
    rw [m_by_f f4 rfl rfl rfl, a4 k k0 (by rw [q3]; exact k1), m_by_f f02 rfl rfl rfl]
  have st : ∀ b, (b ∈ (wS w).map Prod.snd ∧ RCM μ es' (1, b)) ∨ b ∈ (wX w).map Prod.snd → mst μ μ4 b := fun b hb => by
    rcases hb with ⟨hb, hr⟩ | hb
    · have rg := SM_mem SMx hb
      have hM : b ∈ Ms := (ms' b).mpr ⟨⟨rg.2.1, rg.1.2.1⟩, hr⟩
      obtain ⟨p1, p2, p3⟩ := SM_mem (SM_fr0 S3 f4 soK_S) hM
      obtain ⟨a1, a2, a3⟩ := u3 b hM
      have q3 : sI μ2 3 b = sI μ 3 b := mf_I f02 rfl
      have q4 : sI μ2 4 b = sI μ 4 b := mf_I f02 rfl
      refine ⟨⟨p1, p3⟩, by rw [mf_I f4 rfl, a2, q4], ?_, fun k k0 k1 => ?_⟩
      · show sI μ4 3 b = sI μ 3 b
        rw [mf_I f4 rfl, a1, q3]
      · rw [m_by_f f4 rfl rfl rfl, a3 k k0 (by rw [q3]; exact k1), m_by_f f02 rfl rfl rfl]
    · obtain ⟨⟨a', b'⟩, hab, rfl⟩ := List.mem_map.mp hb
      obtain ⟨_, _, x3, x4⟩ := WX a' b' hab
      obtain ⟨y1, y2, y3⟩ := TM_sv TMx x3 x4
      have s := smX b' x3 y3
      exact ⟨⟨msm_sv s y1, msm_hs s y1.2.2.2.1 y2⟩, s.2.2.1, s.2.1, s.2.2.2⟩
  refine ⟨μ4, ?_, ⟨⟨Ms, SM_fr0 S3 f4 soK_S, ms', ?_⟩, ⟨bk, TM_sm TMx (mf_F fAl rfl) (mf_F fAl rfl) (fun m => mf_I fAl rfl) (fun m => mf_I fAl rfl) (fun m => mf_I fAl rfl) smX⟩, st⟩, ⟨Mt, ps, ?_, FTm_fr0 F2' f24 rfl rfl rfl, fun t => ?_⟩, ⟨Mf, C4, fun b => ?_, by rw [s4, cpE], fun b hb => ?_⟩, ⟨Mb, B4, fun b => ?_⟩, ⟨D, dn, fun d => ?_, fun d d0 => ?_, fun d d0 => ?_, fun d d0 => ?_, ?_, ?_⟩, fAl⟩
  · rw [e1, swpM, e2]
    simp only [bd, e3, e4]
  · rw [mf_F f4 rfl, s3, szE]
  · refine MM_st M2 f24 ss_so (fun t ht e he h3 => ?_)
    rw [List.mem_filter] at he
    have h3' : sI μ 32 e = 3 := by rw [← mf_I f02 (k := 32) rfl]; exact h3
    have j3 : sJ μ2 33 e = sJ μ 33 e := mf_J f02 rfl
    rw [j3]
    obtain ⟨t0, t1, h233⟩ := (mt t).mp ht
    have htM := ho2 t t0 t1 h233
    obtain ⟨⟨ta, tb⟩, hab, rfl⟩ := List.mem_map.mp htM
    obtain ⟨e', _, er⟩ := (F2_lr (RE ta tb hab).1).2 e he.1
    have live : sI μ 34 e ≠ 0 := by
      have := he.2
      simp only [alm, decide_eq_true_eq] at this
      exact this
    have rt := (mR (2, tb) (.inr (.inl ⟨rfl, t0, t1⟩))).mp h233
    have x0 : mst μ μ4 (sJ μ 33 e).toInt32 := by
      have vv := er.1
      rw [h3'] at vv
      rcases vv with ⟨_, q, _⟩ | ⟨_, q, _⟩ | ⟨_, q, _⟩ | ⟨_, q, _⟩ | ⟨_, _, a, b, ea, eb, hh⟩ | ⟨_, q, _⟩ | ⟨_, q, _⟩ | ⟨_, q, _⟩ | ⟨_, q, _⟩
      · exact absurd q (by decide)
      · exact absurd q (by decide)
      · exact absurd q (by decide)
      · exact absurd q (by decide)
      · rw [eb, i32_64]
        rcases hh with hh | hh
        · have pa := PK.1 a b hh
          refine st b (.inl ⟨List.mem_map.mpr ⟨_, hh, rfl⟩, fun P p1 p2 p3 => p3 (2, tb) (1, b) (rt P p1 p2 p3) (.inl ⟨rfl, .inr ⟨e, he.1, live, .inl (.inl ⟨h3', ?_, ?_⟩)⟩⟩)⟩)
          · rw [eb, i32_64]
          · rw [eb, i32_64]; exact pa.2.1
        · exact st b (.inr (List.mem_map.mpr ⟨_, hh, rfl⟩))
      · exact absurd q (by decide)
      · exact absurd q (by decide)
      · exact absurd q (by decide)
      · exact absurd q (by decide)
    obtain ⟨a1, a2, a3, a4⟩ := x0
    refine ⟨a1, ?_, ?_, fun k k0 k1 => ?_⟩
    · rw [a2]; exact (mf_I f02 rfl).symm
    · rw [a3]; exact (mf_I f02 (k := 3) rfl).symm
    · have k1' : k < m_sz μ (sJ μ 33 e).toInt32 := by
        have q : m_sz μ2 (sJ μ 33 e).toInt32 = m_sz μ (sJ μ 33 e).toInt32 := mf_I f02 rfl
        rw [← q]; exact k1
      rw [a4 k k0 k1']
      exact (m_by_f f02 rfl rfl rfl).symm
  · rw [mt t]
    refine ⟨fun ⟨h0, h1, h⟩ => ⟨⟨h0, h1⟩, (mR (2, t) (.inr (.inl ⟨rfl, h0, h1⟩))).mp h⟩, fun ⟨⟨h0, h1⟩, h⟩ => ⟨h0, h1, (mR (2, t) (.inr (.inl ⟨rfl, h0, h1⟩))).mpr h⟩⟩
  · rw [mf b]
    refine ⟨fun ⟨k, k0, k1, q, hk⟩ => ?_, fun ⟨⟨h0, h1⟩, h⟩ => ?_⟩
    · have s := sh_64 k0 k1
      rw [q]
      refine ⟨s.1, (mR (3, 64 + k) (.inr (.inr (.inl ⟨rfl, s.1⟩)))).mp ?_⟩
      show sI μ1 234 (64 + k - 64) = 1
      rw [s.2, ← mf_I f13 (k := 234) rfl]; exact hk
    · have s := sh_64' h0 h1
      refine ⟨b - 64, s.1.1, s.1.2, s.2, ?_⟩
      have := (mR (3, b) (.inr (.inr (.inl ⟨rfl, h0, h1⟩)))).mpr h
      rw [mf_I f13 rfl]; exact this
  · obtain ⟨a1, a2, a3, a4⟩ := u4 b hb
    rw [c03] at a3 a4
    refine ⟨a1, a2, a3, fun k k0 k1 => ?_⟩
    rw [a4 k k0 k1, mf_I f03 (k := 50) rfl, mf_I f03 (k := 46) rfl]
  · rw [mb b]
    have e235 : sI μ3 235 b = sI μ1 235 b := mf_I f13 rfl
    rw [e235]
    refine ⟨fun ⟨h0, h1, h⟩ => ⟨⟨h0, h1⟩, (mR (4, b) (.inr (.inr (.inr (.inl ⟨rfl, h0, h1⟩))))).mp h⟩, fun ⟨⟨h0, h1⟩, h⟩ => ⟨h0, h1, (mR (4, b) (.inr (.inr (.inr (.inl ⟨rfl, h0, h1⟩))))).mpr h⟩⟩
  · rw [dm d]
    have e236 : sI μ3 236 d = sI μ1 236 d := mf_I f13 rfl
    have e170 : sI μ3 170 d = sI μ 170 d := mf_I f03 rfl
    rw [e236, e170]
    refine ⟨fun ⟨h0, h1, h2, h3⟩ => ⟨⟨h0, h1⟩, h2, fun hr => ?_⟩, fun ⟨⟨h0, h1⟩, h2, h3⟩ => ⟨h0, h1, h2, ?_⟩⟩
    · have := (mR (5, d) (.inr (.inr (.inr (.inr ⟨rfl, h0, h1⟩))))).mpr hr
      exact absurd (h3.symm.trans this) (by decide)
    · exact (m01 (5, d) (.inr (.inr (.inr (.inr ⟨rfl, h0, h1⟩))))).resolve_right (fun hm => h3 ((mR (5, d) (.inr (.inr (.inr (.inr ⟨rfl, h0, h1⟩))))).mp hm))
  · rw [d170 d d0, mf_I f03 (k := 170) rfl]
  · rw [d166 d d0, mf_I f03 (k := 166) rfl]
  · rw [d164 d d0, mf_I f03 (k := 164) rfl]
  · rw [d171, mf_F f03 (k := 171) rfl]
  · rw [d155, mf_F f03 (k := 155) rfl]
    simp only [k166, mf_I f03 (k := 166) rfl]
