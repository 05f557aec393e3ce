/-! LAYER 2: the two readers: signs (printed by genh8.py) -/
def bdm (a : Int32) : Int32 := if a = 10 then 2 else if a = 25 then 1 else if a = 137 then 10 else if a = 138 then 6 else if a = 142 then 10 else if a = 143 then 9 else if a = 145 then 9 else if a = 160 then 3 else if a = 162 then 3 else if a = 224 then 4 else if a = 226 then 5 else if a = 300 then 10 else if a = 301 then 7 else if a = 302 then 7 else if a = 303 then 3 else if a = 304 then 3 else if a = 305 then 3 else if a = 306 then 3 else if a = 308 then 8 else 0
def bdx (a : Int32) : Int32 := if a = 10 then 9 else if a = 11 then 9 else if a = 12 then 10 else if a = 13 then 10 else if a = 14 then 10 else if a = 15 then 6 else if a = 16 then 4 else if a = 17 then 5 else if a = 18 then 7 else if a = 19 then 7 else if a = 20 then 3 else if a = 21 then 3 else if a = 22 then 3 else if a = 23 then 3 else if a = 24 then 3 else if a = 25 then 3 else if a = 26 then 8 else if a = 27 then 0 else if a = 28 then 0 else if a = 29 then 0 else if a = 30 then 0 else if a = 31 then 0 else if a = 32 then 0 else if a = 33 then 0 else if a = 34 then 0 else if a = 35 then 0 else if a = 36 then 0 else if a = 37 then 0 else if a = 38 then 0 else if a = 39 then 0 else if a = 40 then 0 else if a = 41 then 0 else if a = 42 then 0 else if a = 43 then 0 else if a = 44 then 0 else if a = 45 then 0 else if a = 46 then 0 else if a = 47 then 0 else if a = 48 then 0 else if a = 49 then 0 else if a = 50 then 2 else if a = 51 then 0 else if a = 52 then 0 else if a = 53 then 0 else if a = 54 then 0 else if a = 55 then 0 else if a = 56 then 0 else if a = 57 then 0 else if a = 58 then 0 else if a = 59 then 0 else if a = 60 then 0 else if a = 61 then 0 else if a = 62 then 0 else if a = 63 then 0 else if a = 64 then 0 else if a = 65 then 1 else 0
theorem bd_m {N : Nat} {μ : mS} {a : Int32} : mm_binds N μ a = some (bdm a, μ) := by
  rw [mm_binds, bdm]
  by_cases h10 : a = 10
  · rw [if_pos h10, if_pos h10]
  rw [if_neg h10, if_neg h10]
  by_cases h25 : a = 25
  · rw [if_pos h25, if_pos h25]
  rw [if_neg h25, if_neg h25]
  by_cases h137 : a = 137
  · rw [if_pos h137, if_pos h137]
  rw [if_neg h137, if_neg h137]
  by_cases h138 : a = 138
  · rw [if_pos h138, if_pos h138]
  rw [if_neg h138, if_neg h138]
  by_cases h142 : a = 142
  · rw [if_pos h142, if_pos h142]
  rw [if_neg h142, if_neg h142]
  by_cases h143 : a = 143
  · rw [if_pos h143, if_pos h143]
  rw [if_neg h143, if_neg h143]
  by_cases h145 : a = 145
  · rw [if_pos h145, if_pos h145]
  rw [if_neg h145, if_neg h145]
  by_cases h160 : a = 160
  · rw [if_pos h160, if_pos h160]
  rw [if_neg h160, if_neg h160]
  by_cases h162 : a = 162
  · rw [if_pos h162, if_pos h162]
  rw [if_neg h162, if_neg h162]
  by_cases h224 : a = 224
  · rw [if_pos h224, if_pos h224]
  rw [if_neg h224, if_neg h224]
  by_cases h226 : a = 226
  · rw [if_pos h226, if_pos h226]
  rw [if_neg h226, if_neg h226]
  by_cases h300 : a = 300
  · rw [if_pos h300, if_pos h300]
  rw [if_neg h300, if_neg h300]
  by_cases h301 : a = 301
  · rw [if_pos h301, if_pos h301]
  rw [if_neg h301, if_neg h301]
  by_cases h302 : a = 302
  · rw [if_pos h302, if_pos h302]
  rw [if_neg h302, if_neg h302]
  by_cases h303 : a = 303
  · rw [if_pos h303, if_pos h303]
  rw [if_neg h303, if_neg h303]
  by_cases h304 : a = 304
  · rw [if_pos h304, if_pos h304]
  rw [if_neg h304, if_neg h304]
  by_cases h305 : a = 305
  · rw [if_pos h305, if_pos h305]
  rw [if_neg h305, if_neg h305]
  by_cases h306 : a = 306
  · rw [if_pos h306, if_pos h306]
  rw [if_neg h306, if_neg h306]
  by_cases h308 : a = 308
  · rw [if_pos h308, if_pos h308]
  rw [if_neg h308, if_neg h308]
theorem bd_x {N : Nat} {σ : mS} {a : Int32} : xx10_binds N σ a = some (bdx a, σ) := by
  rw [xx10_binds, bdx]
  by_cases h10 : a = 10
  · rw [if_pos h10, if_pos h10]
  rw [if_neg h10, if_neg h10]
  by_cases h11 : a = 11
  · rw [if_pos h11, if_pos h11]
  rw [if_neg h11, if_neg h11]
  by_cases h12 : a = 12
  · rw [if_pos h12, if_pos h12]
  rw [if_neg h12, if_neg h12]
  by_cases h13 : a = 13
  · rw [if_pos h13, if_pos h13]
  rw [if_neg h13, if_neg h13]
  by_cases h14 : a = 14
  · rw [if_pos h14, if_pos h14]
  rw [if_neg h14, if_neg h14]
  by_cases h15 : a = 15
  · rw [if_pos h15, if_pos h15]
  rw [if_neg h15, if_neg h15]
  by_cases h16 : a = 16
  · rw [if_pos h16, if_pos h16]
  rw [if_neg h16, if_neg h16]
  by_cases h17 : a = 17
  · rw [if_pos h17, if_pos h17]
  rw [if_neg h17, if_neg h17]
  by_cases h18 : a = 18
  · rw [if_pos h18, if_pos h18]
  rw [if_neg h18, if_neg h18]
  by_cases h19 : a = 19
  · rw [if_pos h19, if_pos h19]
  rw [if_neg h19, if_neg h19]
  by_cases h20 : a = 20
  · rw [if_pos h20, if_pos h20]
  rw [if_neg h20, if_neg h20]
  by_cases h21 : a = 21
  · rw [if_pos h21, if_pos h21]
  rw [if_neg h21, if_neg h21]
  by_cases h22 : a = 22
  · rw [if_pos h22, if_pos h22]
  rw [if_neg h22, if_neg h22]
  by_cases h23 : a = 23
  · rw [if_pos h23, if_pos h23]
  rw [if_neg h23, if_neg h23]
  by_cases h24 : a = 24
  · rw [if_pos h24, if_pos h24]
  rw [if_neg h24, if_neg h24]
  by_cases h25 : a = 25
  · rw [if_pos h25, if_pos h25]
  rw [if_neg h25, if_neg h25]
  by_cases h26 : a = 26
  · rw [if_pos h26, if_pos h26]
  rw [if_neg h26, if_neg h26]
  by_cases h27 : a = 27
  · rw [if_pos h27, if_pos h27]
  rw [if_neg h27, if_neg h27]
  by_cases h28 : a = 28
  · rw [if_pos h28, if_pos h28]
  rw [if_neg h28, if_neg h28]
  by_cases h29 : a = 29
  · rw [if_pos h29, if_pos h29]
  rw [if_neg h29, if_neg h29]
  by_cases h30 : a = 30
  · rw [if_pos h30, if_pos h30]
  rw [if_neg h30, if_neg h30]
  by_cases h31 : a = 31
  · rw [if_pos h31, if_pos h31]
  rw [if_neg h31, if_neg h31]
  by_cases h32 : a = 32
  · rw [if_pos h32, if_pos h32]
  rw [if_neg h32, if_neg h32]
  by_cases h33 : a = 33
  · rw [if_pos h33, if_pos h33]
  rw [if_neg h33, if_neg h33]
  by_cases h34 : a = 34
  · rw [if_pos h34, if_pos h34]
  rw [if_neg h34, if_neg h34]
  by_cases h35 : a = 35
  · rw [if_pos h35, if_pos h35]
  rw [if_neg h35, if_neg h35]
  by_cases h36 : a = 36
  · rw [if_pos h36, if_pos h36]
  rw [if_neg h36, if_neg h36]
  by_cases h37 : a = 37
  · rw [if_pos h37, if_pos h37]
  rw [if_neg h37, if_neg h37]
  by_cases h38 : a = 38
  · rw [if_pos h38, if_pos h38]
  rw [if_neg h38, if_neg h38]
  by_cases h39 : a = 39
  · rw [if_pos h39, if_pos h39]
  rw [if_neg h39, if_neg h39]
  by_cases h40 : a = 40
  · rw [if_pos h40, if_pos h40]
  rw [if_neg h40, if_neg h40]
  by_cases h41 : a = 41
  · rw [if_pos h41, if_pos h41]
  rw [if_neg h41, if_neg h41]
  by_cases h42 : a = 42
  · rw [if_pos h42, if_pos h42]
  rw [if_neg h42, if_neg h42]
  by_cases h43 : a = 43
  · rw [if_pos h43, if_pos h43]
  rw [if_neg h43, if_neg h43]
  by_cases h44 : a = 44
  · rw [if_pos h44, if_pos h44]
  rw [if_neg h44, if_neg h44]
  by_cases h45 : a = 45
  · rw [if_pos h45, if_pos h45]
  rw [if_neg h45, if_neg h45]
  by_cases h46 : a = 46
  · rw [if_pos h46, if_pos h46]
  rw [if_neg h46, if_neg h46]
  by_cases h47 : a = 47
  · rw [if_pos h47, if_pos h47]
  rw [if_neg h47, if_neg h47]
  by_cases h48 : a = 48
  · rw [if_pos h48, if_pos h48]
  rw [if_neg h48, if_neg h48]
  by_cases h49 : a = 49
  · rw [if_pos h49, if_pos h49]
  rw [if_neg h49, if_neg h49]
  by_cases h50 : a = 50
  · rw [if_pos h50, if_pos h50]
  rw [if_neg h50, if_neg h50]
  by_cases h51 : a = 51
  · rw [if_pos h51, if_pos h51]
  rw [if_neg h51, if_neg h51]
  by_cases h52 : a = 52
  · rw [if_pos h52, if_pos h52]
  rw [if_neg h52, if_neg h52]
  by_cases h53 : a = 53
  · rw [if_pos h53, if_pos h53]
  rw [if_neg h53, if_neg h53]
  by_cases h54 : a = 54
  · rw [if_pos h54, if_pos h54]
  rw [if_neg h54, if_neg h54]
  by_cases h55 : a = 55
  · rw [if_pos h55, if_pos h55]
  rw [if_neg h55, if_neg h55]
  by_cases h56 : a = 56
  · rw [if_pos h56, if_pos h56]
  rw [if_neg h56, if_neg h56]
  by_cases h57 : a = 57
  · rw [if_pos h57, if_pos h57]
  rw [if_neg h57, if_neg h57]
  by_cases h58 : a = 58
  · rw [if_pos h58, if_pos h58]
  rw [if_neg h58, if_neg h58]
  by_cases h59 : a = 59
  · rw [if_pos h59, if_pos h59]
  rw [if_neg h59, if_neg h59]
  by_cases h60 : a = 60
  · rw [if_pos h60, if_pos h60]
  rw [if_neg h60, if_neg h60]
  by_cases h61 : a = 61
  · rw [if_pos h61, if_pos h61]
  rw [if_neg h61, if_neg h61]
  by_cases h62 : a = 62
  · rw [if_pos h62, if_pos h62]
  rw [if_neg h62, if_neg h62]
  by_cases h63 : a = 63
  · rw [if_pos h63, if_pos h63]
  rw [if_neg h63, if_neg h63]
  by_cases h64 : a = 64
  · rw [if_pos h64, if_pos h64]
  rw [if_neg h64, if_neg h64]
  by_cases h65 : a = 65
  · rw [if_pos h65, if_pos h65]
  rw [if_neg h65, if_neg h65]
theorem bd_all : (List.range 72).all (fun a => !KRb a || (bdx (Int32.ofNat a) == bdm (kmp (Int32.ofNat a)) && decide (0 ≤ bdx (Int32.ofNat a) ∧ bdx (Int32.ofNat a) ≤ 10) && (Int32.ofNat a == 26) == (kmp (Int32.ofNat a) == 308) && (Int32.ofNat a == 50) == (kmp (Int32.ofNat a) == 10) && (Int32.ofNat a == 65) == (kmp (Int32.ofNat a) == 25) && (bdx (Int32.ofNat a) == 0 || decide (0 < kmp (Int32.ofNat a))) && (Int32.ofNat a == 26 || bdx (Int32.ofNat a) != 8))) = true := by decide +kernel
/-- how much signs bind, on both sides -/
theorem bd_k {k : Int32} (h : KR k) : bdx k = bdm (kmp k) ∧ (0 ≤ bdx k ∧ bdx k ≤ 10) ∧ (k = 26 ↔ kmp k = 308) ∧ (k = 50 ↔ kmp k = 10) ∧ (k = 65 ↔ kmp k = 25) ∧ (bdx k = 0 ∨ 0 < kmp k) ∧ (k = 26 ∨ bdx k ≠ 8) := by
  obtain ⟨a, a1, a2, e⟩ := KR_n h
  have q := List.all_eq_true.mp bd_all a (List.mem_range.mpr a1)
  rw [a2, ← e] at q
  simp only [Bool.not_true, Bool.false_or, Bool.and_eq_true, decide_eq_true_eq, beq_iff_eq, Bool.or_eq_true, bne_iff_ne, ne_eq] at q
  obtain ⟨⟨⟨⟨⟨⟨q1, q2⟩, q3⟩, q4⟩, q5⟩, q6⟩, q7⟩ := q
  have iff_of : ∀ x y u v : Int32, ((x == y) = (u == v)) → (x = y ↔ u = v) := fun x y u v z => by
    have z1 : (x == y) = true ↔ (u == v) = true := by rw [z]
    simpa using z1
  exact ⟨q1, q2, iff_of _ _ _ _ q3, iff_of _ _ _ _ q4, iff_of _ _ _ _ q5, q6, q7⟩
theorem bd_26 : bdx 26 = 8 ∧ bdx 50 = 2 ∧ bdx 65 = 1 := by decide
/-- whether a sign that waits goes first -/
def gfs (s b : Int32) : Int32 := if s < 0 then 1 else if b < bdm s then 1 else if bdm s = b then (if s = 308 then 0 else 1) else 0
theorem gf_m {N : Nat} {μ : mS} {s b : Int32} : mm_goesFirst N μ s b = some (gfs s b, μ) := by
  have y : mm_goesFirst_27 N μ = some (1, μ) := rfl
  have z : mm_goesFirst_31 N μ = some (0, μ) := rfl
  rw [mm_goesFirst, gfs]
  by_cases c : s < 0
  · rw [if_pos c, if_pos c]; exact y
  rw [if_neg c, if_neg c, bd_m]
  simp only [bd]
  by_cases c1 : b < bdm s
  · rw [if_pos c1, if_pos c1]; exact y
  rw [if_neg c1, if_neg c1, bd_m]
  simp only
  by_cases c2 : bdm s = b
  · rw [if_pos c2, if_pos c2]
    by_cases c3 : s = 308
    · rw [if_pos c3, if_pos c3]; exact z
    · rw [if_neg c3, if_neg c3]; exact y
  · rw [if_neg c2, if_neg c2]; exact z
/-- weights of what may be nested yet -/
def wei (l : Nat) : Nat := [32, 30, 28, 24, 20, 16, 12, 8, 8, 4, 0].getD l 0
def kfo (o : Nat) : Int := 64 * (o + 1)
/-- worlds and trees that come later; the tree has where the reference's bodies begin -/
def wxT (A : Nat → Int) (w W : WD) (T : mS) : Prop := wx w W ∧ tF T 82 = A 82
theorem wxT_tr {A : Nat → Int} {a b W : WD} {T : mS} (h : wx a b) (g : wxT A b W T) : wxT A a W T := ⟨wx_tr h g.1, g.2⟩
/-- an expression was read on both sides, r its node -/
def GX (N : Nat) (n : Int32) (t : Int32 → Int32) (A : Nat → Int) (w : WD) (o e : Nat) (c : Int) (p p' : Int32) (σ μ : mS) (r : Int32) (σ' μ' : mS) : Prop := ∃ w' e', wx w w' ∧ PS n t A w' p' e' o (c - 8) σ' μ' ∧ (KPL μ μ' ∧ sF μ' 97 = sF μ 97 ∧ KQ μ') ∧ (sF σ 584 ≤ r ∧ r < sF σ' 584 ∧ nX σ' r = -1) ∧ KX σ σ' (-1) ∧ p.toInt < p'.toInt ∧ ∀ W T, wxT A w' W T → AG σ σ' r T → EMR N W T 0 o e r [] μ μ'
/-- the signs below do not go first before what binds more than l -/
def SGN (l : Nat) (v : Int32) (μ : mS) : Prop := v ≤ sF μ 133 ∧ (¬ sF μ 133 ≤ v → ∀ b, Int32.ofNat l < b → b ≤ 10 → gfs (sI μ 130 (sF μ 133 - 1)) b = 0)
/-- a right side: what the two readers do from the start of an expression of signs that bind more than l -/
def RXx (N : Nat) (n : Int32) (t : Int32 → Int32) (A : Nat → Int) (w : WD) (o l : Nat) (c : Int) (p : Int32) (σ μ : mS) (X : Option (Int32 × mS)) (T : ty_expression) (Y : Option mS) (v : Int32) : Prop := ∃ r σ', X = some (r, σ') ∧ m_fr fPX σ σ' ∧ ((∃ μ', Y = some μ' ∧ m_fr fPM μ μ' ∧ FLw n t w (kfo o) σ' μ') ∨ ∃ μ' p' f h, Y = mm_expression_84 N T (mm_expression_7 N T f) h v (bdm (sF μ' 60)) μ' ∧ m_fr fPM μ μ' ∧ GX N n t A w o (wei l) c p p' σ μ r σ' μ' ∧ bdm (sF μ' 60) ≤ Int32.ofNat l ∧ n.toInt - p'.toInt < (f : Int) ∧ tF μ' 133 - v.toInt < (h : Int))
def CEx (N : Nat) (n : Int32) (t : Int32 → Int32) (A : Nat → Int) (o : Nat) : Prop := ∀ (l dx dm f g : Nat) (w : WD) (p e : Int32) (c : Int) (σ μ : mS) (v : Int32), l ≤ 10 → 20 * o + 30 - l ≤ dx → 14 * o + 8 ≤ dm → PS n t A w p e o c σ μ → c ≤ 400 → 0 ≤ v.toInt → SGN l v μ → tF μ 133 ≤ 12 * (40 - o) + l → n.toInt - p.toInt < (f : Int) → n.toInt - p.toInt < (g : Int) → RXx N n t A w o l c p σ μ ((rc_xx10_arguments N dx).2.2.2.2.2.1 σ (Int32.ofNat l)) (rc_expression N dm) (mm_expression_18 N (rc_expression N dm) (mm_expression_7 N (rc_expression N dm) f) g v μ) v
/-- a sign is laid on the pile of signs -/
def pshS (μ : mS) (s l j : Int32) : mS := md_pi (md_ai (md_ai (md_ai μ 130 (sF μ 133).toNatClampNeg s) 131 (sF μ 133).toNatClampNeg l) 132 (sF μ 133).toNatClampNeg j) 133 (sF μ 133 + 1)
def fSg (k : Nat) : Bool := [130, 131, 132, 133].contains k
theorem pshS_fr {μ : mS} {s l j : Int32} : m_fr fSg μ (pshS μ s l j) := mf_pi (mf_ai (mf_ai (mf_ai mf_rfl rfl) rfl) rfl) rfl
theorem hang_m {N : Nat} {μ : mS} {s l j : Int32} (h : sF μ 67 = 0) (g : inB (sF μ 133) 2048 = true) : mm_hang N μ s l j = mm_next N (pshS μ s l j) := by
  rw [mm_hang]
  simp only [lt, sF_fold]
  rw [if_pos h, gd_of g]
  rw [show sF (md_ai μ 130 (sF μ 133).toNatClampNeg s) 133 = sF μ 133 from rfl, gd_of g]
  rw [show sF (md_ai (md_ai μ 130 (sF μ 133).toNatClampNeg s) 131 (sF μ 133).toNatClampNeg l) 133 = sF μ 133 from rfl, gd_of g]
  show bd (mm_next N (pshS μ s l j)) (fun z5 => some z5) = _
  cases mm_next N (pshS μ s l j) with
  | none => rfl
  | some z => rfl
theorem hang_f {N : Nat} {μ : mS} {s l j : Int32} (h : sF μ 67 = 1) : mm_hang N μ s l j = some μ := by
  rw [mm_hang]
  simp only [sF_fold]
  rw [h, if_neg (by decide)]
theorem psh_at {μ : mS} {s l j : Int32} (h0 : 0 ≤ sF μ 133) : sI (pshS μ s l j) 130 (sF μ 133) = s ∧ sI (pshS μ s l j) 131 (sF μ 133) = l ∧ sI (pshS μ s l j) 132 (sF μ 133) = j ∧ (∀ k, 0 ≤ k → k < sF μ 133 → sI (pshS μ s l j) 130 k = sI μ 130 k ∧ sI (pshS μ s l j) 131 k = sI μ 131 k ∧ sI (pshS μ s l j) 132 k = sI μ 132 k) := by
  unfold pshS
  refine ⟨?_, ?_, ?_, fun k k0 k1 => ?_⟩
  · rw [sI_pi, sI_ai1 (by decide), sI_ai1 (by decide), sI_ai2]
  · rw [sI_pi, sI_ai1 (by decide), sI_ai2]
  · rw [sI_pi, sI_ai2]
  · have ne : ∀ j : Nat, ∀ i : Nat, ¬ (j = i ∧ k = sF μ 133) := fun j i q => by
      rw [q.2] at k1; exact Int32.lt_irrefl k1
    refine ⟨?_, ?_, ?_⟩ <;> rw [sI_pi, sI_ai h0 k0, if_neg (ne _ _), sI_ai h0 k0, if_neg (ne _ _), sI_ai h0 k0, if_neg (ne _ _)]
theorem sl_Sg {μ μ' : mS} (h : m_fr fSg μ μ') : m_fr slP μ μ' := fr_of h (fin_mem rfl)
theorem pm_Sg {μ μ' : mS} (h : m_fr fSg μ μ') : m_fr fPM μ μ' := pm_of h (fin_mem rfl)
theorem MIp_Sg' : MIq (fun k => [130, 131, 132].contains k) := MIq_of rfl
/-- the pile of signs changes, the rest stays -/
theorem MI_133 {A : Nat → Int} {n b : Int} {o : Nat} {μ : mS} {x : Int32} (h : MI A n b o μ) (h0 : 0 ≤ x.toInt) : MI A n b o (md_pi μ 133 x) := ⟨h.1, h.2.1, h.2.2.1, h.2.2.2.1, h.2.2.2.2.1, h.2.2.2.2.2.1, h.2.2.2.2.2.2.1, h.2.2.2.2.2.2.2.1, h0, h.2.2.2.2.2.2.2.2.2⟩
theorem MI_69 {A : Nat → Int} {n b : Int} {o : Nat} {μ : mS} {x : Int32} (h : MI A n b o μ) : MI A n b o (md_pi μ 69 x) := h
theorem MI_lo {A : Nat → Int} {n b : Int} {o : Nat} {μ : mS} (h : MI A n b (o + 1) μ) : MI A n b o μ := by
  obtain ⟨h0, h1, h2, h3, l1, l2, l3, l4, l5, l6⟩ := h
  exact ⟨h0, h1, h2, h3, ⟨l1.1, by omega⟩, ⟨l2.1, by omega⟩, ⟨l3.1, by omega⟩, ⟨l4.1, by omega⟩, l5, by omega⟩
theorem MI_hi {A : Nat → Int} {n b b0 : Int} {o o' : Nat} {μ μ0 : mS} (h : MI A n b o μ) (k : KPL μ0 μ) (g : MI A n b0 o' μ0) : MI A n b o' μ := by
  obtain ⟨h0, h1, h2, h3, l1, l2, l3, l4, l5, l6⟩ := h
  obtain ⟨_, _, _, _, g1, g2, g3, g4, g5, g6⟩ := g
  obtain ⟨⟨k1, k2, k3, k4, k5, _⟩, _⟩ := k
  unfold tF at g1 g2 g3 g4 g5
  refine ⟨h0, h1, h2, h3, ?_, ?_, ?_, ?_, ?_, g6⟩ <;> unfold tF
  · rw [k1]; exact g1
  · rw [k2]; exact g2
  · rw [k4]; exact g3
  · rw [k5]; exact g4
  · rw [k3]; exact g5
