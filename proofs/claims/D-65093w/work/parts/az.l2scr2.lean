/-! LAYER 2: a script's function is entered on both sides: the run goes on there -/
theorem tx_7 : xtx 7 = mtx 14 := by decide +kernel
theorem tx_6 : xtx 6 = mtx 13 := by decide +kernel
theorem tx_8 : xtx 8 = mtx 12 := by decide +kernel
/-- code that is alike: what is known of it -/
def KOK (e : EV) : Prop := ∀ g b n, eK e g b n → (0 ≤ g ∧ g < 5400) ∧ (0 ≤ b ∧ b < 9000) ∧ sI (eσ e) 262 g = sI (eμ e) 77 b ∧ (sI (eσ e) 263 g = 0 ↔ sI (eμ e) 78 b = 0) ∧ (0 ≤ sI (eμ e) 77 b ∧ sI (eμ e) 77 b ≤ 60) ∧ (sI (eμ e) 77 b + 100 ≤ sI (eσ e) 261 g ∧ sI (eσ e) 261 g ≤ 2500) ∧ eS e g (sI (eσ e) 259 g) (sI (eμ e) 76 b) (rng 0 (sI (eμ e) 77 b)) (-1)
theorem RF_rng {K : Int32 → Int32 → Int32 → Prop} {w : WD} {σ μ : mS} (R : RF K w σ μ) {a b : Int32} (h : (a, b) ∈ wF w) : 0 ≤ a ∧ a < 4000 ∧ 64 ≤ b ∧ b < 4064 := by
  obtain ⟨⟨f, ⟨_, _, _, _, r, _, _⟩, _⟩, ⟨⟨_, _, _, _, _, r', _⟩, _⟩, _⟩ := R
  have x := r a (List.mem_append.mpr (.inl (List.mem_map.mpr ⟨(a, b), h, rfl⟩)))
  have y := r' b (List.mem_map.mpr ⟨(a, b), h, rfl⟩)
  exact ⟨x.1, x.2, y.1, by lia⟩
/-- how far the place of what is given lies behind the coroutine's first -/
theorem FL_pl2 {S : SR} {w : WD} {σ : mS} {ff : Int32 → Nat → Int32} {pt : Int32 → Int32} {pv : Int32 → Int64} {bt k0 B0 n : Int32} {fl : List Int32} {ct : CT} (h : FL S w σ ff pt pv bt k0 B0 fl n ct) (k1 : 0 ≤ k0) (n1 : n ≤ 200) (b0 : 0 ≤ B0) (b1 : B0 ≤ 2300 * k0) : ct.2.2.2.1 ≤ B0 + 2300 * (n - k0) := by
  cases fl with
  | nil =>
    obtain ⟨h1, h2, _, _⟩ := h
    rw [h2, h1]
    have : 2300 * (k0 - k0) = 0 := by lia
    lia
  | cons f fl =>
    obtain ⟨h1, ⟨h2, h2'⟩, h3, _⟩ := h
    have q : ff (n - 1) 5 ≤ B0 + 2300 * (n - k0) - 2300 := by lia
    have q2 : B0 + 2300 * (n - k0) - 2300 ≤ 500000 ∧ 0 ≤ B0 + 2300 * (n - k0) - 2300 := ⟨by lia, by lia⟩
    have q3 : 0 ≤ ff (n - 1) 5 := by lia
    clear h2 h2' b0 b1
    generalize B0 + 2300 * (n - k0) = T at *
    rcases h3 with ⟨_, _, _, _, s5, _⟩ | ⟨ρ, ⟨_, _, _, _, _, _, ⟨_, s7, s7'⟩, s8, _⟩, hpl, hρ, _⟩
    · rw [s5]; lia
    · have lb := oN_bd hρ
      rw [hpl, s8]; lia
theorem c200 {a b n : Int32} (e : a = b) (h : a < 200) (l : n ≤ b) (h0 : 0 ≤ n) : n + 1 ≤ 200 := by lia
theorem pos_R {w R : Int32} (h1 : 0 ≤ w) (h2 : w ≤ 60) (h3 : w + 100 ≤ R) : 0 < R := by lia
theorem len_199 {σ : mS} {n r : Nat} (h : sF σ 358 < 200) (e : (sF σ 358).toInt = (n : Int) + r) : n ≤ 199 := by
  rw [tI_lt] at h
  have : (200 : Int32).toInt = 200 := rfl
  omega
theorem tI_inc {a : Int32} (h0 : 0 ≤ a) (h1 : a < 1000000) : (a + 1).toInt = a.toInt + 1 := tI_ad (b := 1) h0 (by lia) (by decide) (by decide)
theorem VV_t8 {w : WD} {tx tm : Int32} {vx vm : Int64} (v : VV w tx vx tm vm) : (0 ≤ tx ∧ tx ≤ 8) ∧ 0 ≤ tm ∧ tm ≤ 8 := by
  have := VV_tag v
  exact ⟨⟨this.1, this.2.1⟩, this.2.2.1, Int32.le_trans this.2.2.2.1 (by decide)⟩
theorem neg_1 {x c : Int32} (h : 0 ≤ x) (e : x = -1 - c) (h1 : 1 ≤ c) : False := by lia
theorem more_ex {q q' n words : Int32} (k4 : q = 0 ↔ q' = 0) (n0 : 0 ≤ n) (n1 : n ≤ 100) (w0 : 0 ≤ words) (w1 : words ≤ 60) : ∃ more, ((q = 0 ∧ more = 0) ∨ (q ≠ 0 ∧ n ≤ words ∧ more = 0) ∨ (q ≠ 0 ∧ words < n ∧ more = n - words)) ∧ ((q' = 0 ∧ more = 0) ∨ (q' ≠ 0 ∧ n ≤ words ∧ more = 0) ∨ (q' ≠ 0 ∧ words < n ∧ more = n - words)) ∧ (0 ≤ more ∧ more ≤ 100 ∧ ∀ k, 0 ≤ k → k < more → 0 ≤ words + k ∧ words + k < n) := by
  by_cases c : q = 0
  · exact ⟨0, .inl ⟨c, rfl⟩, .inl ⟨k4.mp c, rfl⟩, by decide, by decide, fun k k0 k1 => by exfalso; lia⟩
  · have c' : q' ≠ 0 := fun z => c (k4.mpr z)
    by_cases q2 : n ≤ words
    · exact ⟨0, .inr (.inl ⟨c, q2, rfl⟩), .inr (.inl ⟨c', q2, rfl⟩), by decide, by decide, fun k k0 k1 => by exfalso; lia⟩
    · have := (show words < n by lia)
      exact ⟨n - words, .inr (.inr ⟨c, this, rfl⟩), .inr (.inr ⟨c', this, rfl⟩), by clear k4 c c'; lia, by clear k4 c c'; lia, fun k k0 k1 => ⟨by clear k4 c c'; lia, by clear k4 c c'; lia⟩⟩
/-- numbers of a call -/
theorem CL_n {e : EV} {w : WD} {xf : Int32 → List Int32} {c d : Int32} {rest : PL2} {ct : CT} {σ μ : mS} (H : CL e w xf c d rest ct σ μ) : (0 ≤ ct.2.2.2.1 ∧ ct.2.2.2.1 ≤ 475000 ∧ ct.2.2.2.1 ≤ 470000) ∧ (0 ≤ sF μ 154 ∧ sF μ 154 < 250 ∧ sF μ 154 ≤ 200) ∧ (∀ k, k < sI μ 162 d → k < sF μ 154) ∧ (∀ i, i < sI μ 161 d → i < ct.2.2.2.1 + 1) ∧ (∀ k, sI μ 162 d ≤ k → 0 ≤ k) ∧ (∀ i, sI μ 161 d ≤ i → 0 ≤ i) ∧ sI μ 162 d < sF μ 154 + 1 ∧ (sI μ 161 d ≤ ct.2.2.2.1 ∧ ct.2.2.2.1 ≤ sI μ 161 d + 2300 * (sF μ 154 - sI μ 162 d)) ∧ sF μ 154 + 1 - 1 = sF μ 154 ∧ (∀ i, i < ct.2.2.2.1 → i < ct.2.2.2.1 + 1) ∧ ct.2.2.2.1 < ct.2.2.2.1 + 1 ∧ sF μ 154 + 1 ≤ 201 := by
  have bb := CL_b H
  have pl2 := FL_pl2 H.2.2 bb.2.2.1.1 bb.2.2.1.2.2 bb.2.2.2.1 (by have := (BC_kb H.1.2.2.2.2.2.1).2.2.2.2; simpa using this)
  clear H
  generalize ct.2.2.2.1 = p at *
  generalize sF μ 154 = n at *
  generalize sI μ 162 d = k0 at *
  generalize sI μ 161 d = B0 at *
  obtain ⟨b1, b2, ⟨b3, b4, b5⟩, b6, b7⟩ := bb
  refine ⟨⟨b1, by lia, b2⟩, ⟨by lia, by lia, b5⟩, fun k h => by lia, fun i h => by lia, fun k h => by lia, fun i h => by lia, by lia, ⟨b7, pl2⟩, by lia, fun i h => by lia, by lia, by lia⟩
theorem open_n {a b : Int32} {n r : Nat} {k : Int} (e1 : a = b) (h0 : 0 ≤ a) (h : a < 200) (e2 : a.toInt = n + r) {c : Int32} (c0 : 0 ≤ c) (c1 : c ≤ 200) (e3 : b.toInt = c.toInt + k) : 0 ≤ a + 1 ∧ a + 1 ≤ 200 ∧ (a + 1).toInt = ((n + 1 : Nat) : Int) + r ∧ (b + 1).toInt = (c + 1).toInt + k := by
  subst e1
  have i1 : (a + 1).toInt = a.toInt + 1 := tI_inc h0 (by lia)
  have i2 : (c + 1).toInt = c.toInt + 1 := tI_inc c0 (by lia)
  exact ⟨by lia, by lia, by rw [i1]; omega, by rw [i1, i2]; omega⟩
/-- what is put together: a new call on both sides -/
theorem ent_MR {e : EV} {w : WD} {xf : Int32 → List Int32} {c d f a b g body words more R : Int32} {rest : PL2} {ct : CT} {σ μ τ τm : mS} (H : CL e w xf c d rest ct σ μ) (X : XF w (fU xf c (f :: xf c)) τ) (f0 : 0 ≤ f ∧ f < 202) (frx : m_fr esK σ τ) (e358 : sF τ 358 = sF σ 358 + 1) (ho : sF σ 358 < 200) (xc : ∀ h, h ∈ fAll w xf → xcs σ τ h) (Y : sI τ 343 f = a ∧ sI τ 344 f = g ∧ sI τ 346 f = sI σ 259 g ∧ sI τ 348 f = more ∧ sI τ 349 f = R + more ∧ sI τ 350 f = ct.1 ∧ sI τ 351 f = ct.2.1 ∧ sI τ 352 f = ct.2.2.1 ∧ sI τ 355 f = 0) (frm : m_fr (fun k => oqM k || [141, 142, 143, 188, 189, 190].contains k) μ τm) (e154 : sF τm 154 = sF μ 154 + 1) (e155 : sF τm 155 = sF μ 155 + 1) (U : mff τm (sF μ 154) 0 = 0 ∧ mff τm (sF μ 154) 1 = b ∧ mff τm (sF μ 154) 2 = sI μ 76 body ∧ mff τm (sF μ 154) 3 = ct.2.2.2.1 + 1 + more ∧ mff τm (sF μ 154) 4 = more ∧ mff τm (sF μ 154) 5 = ct.2.2.2.1 ∧ mff τm (sF μ 154) 6 = ct.2.2.2.2.1 ∧ mff τm (sF μ 154) 7 = ct.2.2.2.2.2) (row : ∀ k j, 0 ≤ k → k < sF μ 154 → j < 10 → mff τm k j = mff μ k j) (pil : ∀ i, 0 ≤ i → i < ct.2.2.2.1 + 1 → sI τm 141 i = sI μ 141 i ∧ sJ τm 142 i = sJ μ 142 i) (top : sF τm 143 = ct.2.2.2.1 + 1 + more + words) (hab : (a, b) ∈ wF w) (hg : sI σ 222 a = g) (gr : 0 ≤ g ∧ g < 5400) (hR : sI σ 261 g = R) (R0 : 0 < R) (R1 : R ≤ 2500) (m0 : 0 ≤ more ∧ more ≤ 100) (w0 : 0 ≤ words) (w1 : words ≤ 60) (h5 : sI μ 141 ct.2.2.2.1 = 5) (jb : sJ μ 142 ct.2.2.2.1 = Int32.toInt64 b) (RW : ∀ k, 0 ≤ k → k < words → VV w (xt τ f k) (xv τ f k) (sI τm 141 (ct.2.2.2.1 + 1 + more + k)) (sJ τm 142 (ct.2.2.2.1 + 1 + more + k))) (RM : ∀ k, 0 ≤ k → k < more → VV w (xt τ f (R + k)) (xv τ f (R + k)) (sI τm 141 (ct.2.2.2.1 + 1 + k)) (sJ τm 142 (ct.2.2.2.1 + 1 + k))) : MR e w (fU xf c (f :: xf c)) c d rest f (xf c) (rng 0 words) (-1) τ τm := by
  obtain ⟨N1, N2, N3, N4, N5, N6, N7, N8, N9, N10, N11, N12⟩ := CL_n H
  have f406 := CL_0 H
  have kk := CL_kb H
  have cc := (ME_c H.1).1
  obtain ⟨ncx, pcx⟩ := cX_nd H.1.2.2.2.2.1
  obtain ⟨Mx, V, L⟩ := H
  obtain ⟨o1, o2, o3, o4, o5⟩ := Mx.2.2.2.2.2.2.2.2.1
  obtain ⟨y1, y2, y3, y4, y5, y6, y7, y8, y9⟩ := Y
  obtain ⟨u0, u1, u2, u3, u4, u5, u6, u7⟩ := U
  have frp : m_fr ppX σ τ := mf_mono frx (fun k hk => by
    simp only [ppX, inR, Bool.or_eq_false_iff, Bool.and_eq_false_iff, decide_eq_false_iff_not, beq_eq_false_iff_ne] at hk
    simp only [esK, qK, rwK, List.contains_cons, List.contains_nil, Bool.or_eq_false_iff, beq_eq_false_iff_ne]
    (repeat' (first | exact trivial | omega | apply And.intro)))
  have frmp : m_fr ppM μ τm := mf_mono frm (fun k hk => by
    simp only [ppM, inR, List.contains_cons, List.contains_nil, Bool.or_eq_false_iff, beq_eq_false_iff_ne, Bool.and_eq_false_iff, decide_eq_false_iff_not] at hk
    simp only [oqM, List.contains_cons, List.contains_nil, Bool.or_eq_false_iff, beq_eq_false_iff_ne]
    (repeat' (first | exact trivial | omega | apply And.intro)))
  have e162 : sI τm 162 d = sI μ 162 d := mf_I frm rfl
  have e161 : sI τm 161 d = sI μ 161 d := mf_I frm rfl
  have fAl := (fAll_push (w := w) (xf := xf) (f := f) ncx cc).length_eq
  simp only [List.length_cons] at fAl
  obtain ⟨P1, P2, P3, P4⟩ := open_n o1 o2 ho o4 N2.1 N2.2.2 o5
  have M' : ME (eS e) (eK e) (eQ e) w (fU xf c (f :: xf c)) c d rest τ τm := ME_pp Mx frp frmp X (fun q hq => fU_o hq) (fun q hq _ h hh => xc h (fAll_mem hq hh)) (fun k j h0 h1 hj => row k j h0 (N3 k h1) hj) (fun i i0 i1 => pil i i0 (N4 i i1)) ⟨by rw [e358, e155, o1], by rw [e358]; exact P1, by rw [e358]; exact P2, by rw [e358, fAl]; exact P3, by rw [e155, e154]; exact P4⟩
  have V' : SV e w τ τm := SV_pp V frp frmp (by rw [mf_F frx rfl]; exact f406)
  have ek : sF τm 154 - 1 = sF μ 154 := by rw [e154]; exact N9
  have cds' : cds w σ τ := cds_fr frx rfl rfl rfl
  have i261 : sI τ 261 g = R := by rw [mf_I frx rfl]; exact hR
  refine ⟨⟨M', V', fU_s, by rw [e162, e154]; exact N7, ?_, ?_, ?_⟩, ?_⟩
  · rw [ek, e161, e162, u5]; exact N8
  · rw [ek]
    refine ⟨f0, y9, u0, ?_, ?_, by rw [y2]; exact gr, ⟨by rw [y4, u4], by rw [u4]; exact m0.1, by rw [u4]; exact m0.2⟩, by rw [u3, u5, u4], ?_, trivial, ?_, ?_, ?_⟩
    · rw [y1, u1]; exact hab
    · rw [y2, y1, mf_I frx rfl]; exact hg.symm
    · rw [y2, y5, i261, u4]; exact ⟨rfl, R0, R1⟩
    · rw [y2, i261, u5, u4]
      exact RG_rng (Int32.le_of_lt R0) (Int32.le_trans R1 (by decide)) (Int32.le_trans m0.2 (by decide)) RM
    · rw [u5, (pil _ N1.1 N11).1]; exact h5
    · rw [u5, u1, (pil _ N1.1 N11).2]; exact jb
  · rw [e162, e161, ek]
    have ctE : ctO τ (mff τm) f (sF μ 154) = ct := by
      simp only [ctO, y6, y7, y8, u5, u6, u7]
    rw [ctE]
    exact FL_cg L kk wle_rfl (fun h hh => xc h (fAll_mem cc hh)) cds' (fun k j h0 h1 hj => row k j (N5 k h0) h1 hj) (fun i i0 i1 => pil i (N6 i i0) (N10 i i1))
  · rw [ek]
    refine .inl ⟨rfl, ?_, ?_⟩
    · rw [u3]
      refine RG_rng (by decide) (by decide) (Int32.le_trans w1 (by decide)) (fun k k0 k1 => ?_)
      rw [Int32.zero_add]
      exact RW k k0 k1
    · rw [top, u3, rng_len, oN_cl' w0]
theorem enterS_2 {e : EV} (E : EVok e) (EK : KOK e) {M : Nat} {F : Int32} (G : HG e M F 200) {w : WD} {xf : Int32 → List Int32} {c d : Int32} {rest : PL2} {ct : CT} {σ μ : mS} {n a b : Int32} (H : CL e w xf c d rest ct σ μ) (A : AR w σ μ ct.2.2.2.1 n) (n1 : n ≤ 100) (h5 : sI μ 141 ct.2.2.2.1 = 5) (hab : (a, b) ∈ wF w) (ja : sG σ 409 = Int32.toInt64 a) (jb : sJ μ 142 ct.2.2.2.1 = Int32.toInt64 b) (hs : 0 ≤ sI σ 222 a) (ho : sF σ 358 < 200) (hF : sF σ 396 = F) (T : ty_xx6_begin) : ∃ τ τm rx, bxx6_enter (eN e) T σ ct.1 ct.2.1 ct.2.2.1 = some (.ok τ) ∧ mm_enterScript (eN e) μ b ct.2.2.2.1 n ct.2.2.2.2.1 ct.2.2.2.2.2 = some τm ∧ sF τ 406 = 0 ∧ XL e M τ rx ∧ MF e M τm rx := by
  have hN := EV_N E
  obtain ⟨N1, N2, _, _, _, _, _, _, N9, _, _, N12⟩ := CL_n H
  have cc := ME_c H.1
  obtain ⟨ncx, pcx⟩ := cX_nd H.1.2.2.2.2.1
  have RR := H.1.1.1
  have V := H.2.1
  have rr := RF_rng RR.2.2.2.1 hab
  obtain ⟨s1, s2, hK⟩ : 0 ≤ sI σ 222 a ∧ 0 ≤ sI μ 45 b ∧ eK e (sI σ 222 a) (sI μ 45 b) (sI σ 224 a) := by
    rcases (RR.2.2.2.1.2.2.2 a b hab).2.2.2.1 with q | ⟨_, c', d', q1, q2, _⟩
    · exact q
    · exact (neg_1 hs q2 (RR.1.2.2.2.2.2 c' d' q1).1).elim
  obtain ⟨k1, k2, k3, k4, k5, k6, rk, rk1, rk2⟩ := EK _ _ _ hK
  have xI : ∀ k i, xR k = false → sI σ k i = sI (eσ e) k i := fun k i hk => mf_I V.1 hk
  have mI : ∀ k i, mR k = false → sI μ k i = sI (eμ e) k i := fun k i hk => mf_I V.2.1 hk
  rw [← xI 262 _ rfl, ← mI 77 _ rfl] at k3
  rw [← xI 263 _ rfl, ← mI 78 _ rfl] at k4
  rw [← mI 77 _ rfl] at k5
  rw [← xI 261 _ rfl, ← mI 77 _ rfl] at k6
  rw [← xI 259 _ rfl, ← mI 77 _ rfl, ← mI 76 _ rfl] at rk2
  clear xI mI hK
  obtain ⟨A1, A2, A3, A4, A5⟩ := A
  have o4 := H.1.2.2.2.2.2.2.2.2.1.2.2.2.1
  obtain ⟨more, hm1, hm2, mr⟩ := more_ex (n := n) k4 A2 n1 k5.1 k5.2
  obtain ⟨f, τ, x1, x2, x3, x4, x5, x6, x7, x8, x9, x10⟩ := entS_x hN (T := T) (md := ct.1) (rg := ct.2.1) (wt := ct.2.2.1) H.1.2.2.2.1 ncx cc.1 (fun q hq => (pcx q hq).1) cc.2.2.1 H.1.2.2.2.2.2.2.1.1 (len_199 ho o4) rr.1 rr.2.1 ja rfl k1.1 k1.2 k3 k5.1 k5.2 k6.1 k6.2 ho A1 A2 n1 (fun k k0 k1' => (VV_t8 (A5 k k0 k1')).1) hm1
  have b64 : 0 ≤ b ∧ b < 4100 := ⟨Int32.le_trans (by decide) rr.2.2.1, Int32.lt_trans rr.2.2.2 (by decide)⟩
  obtain ⟨τm, z1, z2, z3, z4, z5, z6, z7, z8, z9, z10⟩ := entS_m hN (μ := μ) (b := b) (p := ct.2.2.2.1) (n := n) (wn := ct.2.2.2.2.1) (th := ct.2.2.2.2.2) (more := more) b64.1 b64.2 rfl k2.1 k2.2 rfl k5.1 k5.2 N1.1 N1.2.1 A2 n1 N2.1 N2.2.1 A4 (fun k k0 k1' => (VV_t8 (A5 k k0 k1')).2) hm2
  have R0 : 0 < sI σ 261 (sI σ 222 a) := by
    have h1 := k5.1
    have h2 := k5.2
    have h3 := k6.1
    clear hm1 hm2 mr x9 x10 z9 z10 z5 x8 x7 z6 z7 k4 A5 pcx
    exact pos_R h1 h2 h3
  have MR' := ent_MR (R := sI σ 261 (sI σ 222 a)) H x2 x3 x5 x6 ho x7 x8 z2 z3 z4 z5 z6 z7 z8 hab rfl k1 rfl R0 k6.2 ⟨mr.1, mr.2.1⟩ k5.1 k5.2 h5 jb (fun k k0 k1' => by
    have q1 := x9 k k0 k1'
    have q2 := z9 k k0 k1'
    rw [q1.1, q1.2, q2.1, q2.2]
    by_cases q : k < n
    · rw [if_pos q, if_pos q, if_pos q, if_pos q]; exact A5 k k0 q
    · rw [if_neg q, if_neg q, if_neg q, if_neg q]; exact .inl ⟨rfl, rfl, rfl, rfl⟩) (fun k k0 k1' => by
    have q1 := x10 k k0 k1'
    have q2 := z10 k k0 k1'
    have q3 := mr.2.2 k k0 k1'
    rw [q1.1, q1.2, q2.1, q2.2]
    exact A5 _ q3.1 q3.2)
  have ek : sF τm 154 - 1 = sF μ 154 := by rw [z3]; exact N9
  obtain ⟨rx, g1, g2⟩ := HG_F G (rk := rk) MR' rk1 (by rw [ek, x8.2.1, x8.2.2.1, z5.2.2.1]; exact rk2) (by rw [mf_F x5 rfl]; exact hF) (by rw [z3]; exact c200 H.1.2.2.2.2.2.2.2.2.1.1 ho (ME_calls H.1).1 N2.1)
  exact ⟨τ, τm, rx, x1, z1, by rw [mf_F x5 rfl]; exact CL_0 H, g1, g2⟩
