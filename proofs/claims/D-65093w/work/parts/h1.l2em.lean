/-! LAYER 2: what the reference makes of a tree (no token in sight) -/
abbrev EJ : Type := Nat → Nat → Nat → Int32 → List Int32 → mS → mS → Prop
/-- fields of the tree -/
def nK (T : mS) (n : Int32) : Int32 := sI T 576 n
def nA (T : mS) (n : Int32) : Int32 := sI T 577 n
def nB (T : mS) (n : Int32) : Int32 := sI T 578 n
def nC (T : mS) (n : Int32) : Int32 := sI T 579 n
def nD (T : mS) (n : Int32) : Int32 := sI T 580 n
def nL (T : mS) (n : Int32) : Int32 := sI T 581 n
def nP (T : mS) (n : Int32) : Int32 := sI T 582 n
def nX (T : mS) (n : Int32) : Int32 := sI T 583 n
/-- what reading changes besides: strings, tokens, what is open, signs, words and targets that wait -/
def slP (k : Nat) : Bool := [2, 3, 4, 5, 6, 7, 8, 9, 58, 59, 60, 61, 62, 63, 64, 65, 66, 69, 130, 131, 132, 133, 134, 135, 136, 137, 138, 139, 140].contains k
def st (f : mS → Option mS) (μ μ' : mS) : Prop := ∃ ν ν', m_fr slP μ ν ∧ f ν = some ν' ∧ m_fr slP ν' μ'
def sv (f : mS → Option (Int32 × mS)) (x : Int32) (μ μ' : mS) : Prop := ∃ ν ν', m_fr slP μ ν ∧ f ν = some (x, ν') ∧ m_fr slP ν' μ'
def em (N : Nat) (a b c d l : Int32) (ν : mS) : Option mS := bd (mm_emit N ν a b c d l) (fun z => some z.2)
def emh (N : Nat) (a b c l k : Int32) (ν : mS) : Option mS := bd (mm_emit N ν a b c 0 l) (fun z => mm_higher N z.2 k)
/-- a plain value -/
def lf (N : Nat) (a b c : Int32) (ν : mS) : Option mS := bd (mm_emit N (md_pi ν 125 0) a b c 0 0) (fun z => mm_higher N z.2 1)
def ot2 (N : Nat) (ν : mS) : Option mS := bd (mm_emit N (md_pi ν 125 6) 4 1 0 0 0) (fun z => mm_higher N (md_pi z.2 126 z.1) 1)
/-- all others -/
def otw (N : Nat) (p l : Int32) (ν : mS) : Option mS := gd (inB (sF ν 85) 48) (gd (inB (sI ν 87 (sF ν 85)) 9000) (if sI ν 78 (sI ν 87 (sF ν 85)) = 0 then bd (mm_stray N (md_pi ν 125 0) p l) (fun z => ot2 N z) else ot2 N (md_pi ν 125 0)))
def isMn (μ : mS) : Prop := sF μ 125 = 5 ∨ sF μ 125 = 6
def hgt (μ : mS) : Int32 := sI μ 86 (sF μ 85)
/-- the call itself -/
def clo (N : Nat) (callee line all : Int32) (σ : mS) : Option mS := gd (inB (sF σ 85) 48) (bd (mm_emit N (md_pi (md_ai σ 86 (sF σ 85).toNatClampNeg (callee + 1)) 125 5) 32 (hgt σ - callee - 1) 1 all line) (fun z => some (md_pi z.2 126 z.1)))
def mto (N : Nat) (s line : Int32) (σ : mS) : Option mS := bd (mm_string N σ s) (fun z => bd (mm_emit N z 15 0 0 0 line) (fun z1 => bd (mm_emit N z1.2 44 0 0 0 0) (fun z2 => mm_higher N z2.2 (-1))))
def uno (k : Int32) : Int32 := if k = 64 then 27 else if k = 27 then 26 else if k = 11 then 24 else 25
def k0 (ν : mS) : Option mS := some (md_pi ν 125 0)
def fst (i : Int32) (ν : mS) : Option mS := gd (inB i 160000) (some (md_ai ν 71 i.toNatClampNeg (sF ν 75)))
/-- a name's string on the reference -/
def nS (W : WD) (T : mS) (n s : Int32) : Prop := (nA T n, s) ∈ wX W
def cl_nil (N : Nat) (T : mS) (R : EJ) : Prop := ∀ o e n μ μ', nK T n = 0 → st (lf N 0 0 0) μ μ' → R 0 o e n [] μ μ'
def cl_false (N : Nat) (T : mS) (R : EJ) : Prop := ∀ o e n μ μ', nK T n = 1 → st (lf N 1 0 0) μ μ' → R 0 o e n [] μ μ'
def cl_true (N : Nat) (T : mS) (R : EJ) : Prop := ∀ o e n μ μ', nK T n = 2 → st (lf N 1 1 0) μ μ' → R 0 o e n [] μ μ'
def cl_number (N : Nat) (T : mS) (R : EJ) : Prop := ∀ o e n μ μ', nK T n = 3 → st (lf N 2 (nB T n) (nA T n)) μ μ' → R 0 o e n [] μ μ'
def cl_string (N : Nat) (W : WD) (T : mS) (R : EJ) : Prop := ∀ o e n s μ μ', nK T n = 4 → nS W T n s → st (lf N 3 s 0) μ μ' → R 0 o e n [] μ μ'
def cl_others (N : Nat) (T : mS) (R : EJ) : Prop := ∀ o e n μ μ', nK T n = 5 → st (otw N (nP T n) (nL T n)) μ μ' → R 0 o e n [] μ μ'
def cl_function (T : mS) (R : EJ) : Prop := ∀ o e n μ μ', nK T n = 6 → R 5 o 0 (nA T n) [0] μ μ' → R 0 (o + 1) e n [] μ μ'
def cl_name (N : Nat) (W : WD) (T : mS) (R : EJ) : Prop := ∀ o e n s μ μ', nK T n = 7 → nS W T n s → st (fun ν => mm_name N ν s (nP T n) (nL T n)) μ μ' → R 0 o e n [] μ μ'
def cl_dot (N : Nat) (W : WD) (T : mS) (R : EJ) : Prop := ∀ o e n s μ μ1 μ2 μ3, nK T n = 8 → R 0 o e (nA T n) [] μ μ1 → st (mm_value N) μ1 μ2 → nK T (nB T n) = 4 → nS W T (nB T n) s → st (fun ν => bd (mm_string N ν s) (fun z => some (md_pi (md_pi z 125 4) 128 (nL T n)))) μ2 μ3 → R 0 o e n [] μ μ3
def cl_index (N : Nat) (T : mS) (R : EJ) : Prop := ∀ o e n μ μ1 μ2 μ3 μ4 μ5, nK T n = 8 → R 0 (o + 1) e (nA T n) [] μ μ1 → st (mm_value N) μ1 μ2 → R 0 o 32 (nB T n) [] μ2 μ3 → st (mm_value N) μ3 μ4 → st (fun ν => some (md_pi (md_pi ν 125 4) 128 (nL T n))) μ4 μ5 → R 0 (o + 1) e n [] μ μ5
def cl_call (N : Nat) (T : mS) (R : EJ) : Prop := ∀ o e n all μ μ1 μ2 μ3 μ4, nK T n = 9 → R 0 o e (nA T n) [] μ μ1 → st (mm_value N) μ1 μ2 → R 3 o 0 (nB T n) [all] μ2 μ3 → st (clo N (hgt μ2 - 1) (nL T n) all) μ3 μ4 → R 0 o e n [] μ μ4
def cl_method (N : Nat) (W : WD) (T : mS) (R : EJ) : Prop := ∀ o e n s all μ μ1 μ2 μ3 μ4 μ5 μ6, nK T n = 10 → R 0 o e (nA T n) [] μ μ1 → st (mm_value N) μ1 μ2 → st (emh N 43 0 0 0 1) μ2 μ3 → nK T (nC T n) = 4 → nS W T (nC T n) s → st (mto N s (nL T n)) μ3 μ4 → R 3 o 0 (nB T n) [all] μ4 μ5 → st (clo N (hgt μ4 - 2) (nD T n) all) μ5 μ6 → R 0 o e n [] μ μ6
def cl_brackets (N : Nat) (T : mS) (R : EJ) : Prop := ∀ o e n μ μ1 μ2, nK T n = 11 → R 0 o 32 (nA T n) [] μ μ1 → st (mm_value N) μ1 μ2 → R 0 (o + 1) e n [] μ μ2
def cl_logic (N : Nat) (T : mS) (R : EJ) : Prop := ∀ o e d n i μ μ1 μ2 μ3 μ4 μ5 μ6 μ7, nK T n = 12 → nC T n = 50 ∨ nC T n = 65 → R 0 o e (nA T n) [] μ μ1 → st (mm_value N) μ1 μ2 → sv (fun ν => mm_emit N ν (if nC T n = 50 then 30 else 31) 0 0 0 0) i μ2 μ3 → st (fun ν => mm_higher N ν (-1)) μ3 μ4 → d + 2 ≤ e → R 0 o d (nB T n) [] μ4 μ5 → st (mm_value N) μ5 μ6 → st (fun ν => bd (fst i ν) (fun z => k0 z)) μ6 μ7 → R 0 o e n [] μ μ7
def cl_two (N : Nat) (T : mS) (R : EJ) : Prop := ∀ o e o' d n μ μ1 μ2 μ3 μ4 μ5, nK T n = 12 → nC T n ≠ 50 ∧ nC T n ≠ 65 → R 0 o e (nA T n) [] μ μ1 → st (mm_value N) μ1 μ2 → (o' = o ∧ d + 4 ≤ e) ∨ (o' + 1 = o ∧ d ≤ 8) → R 0 o' d (nB T n) [] μ2 μ3 → st (mm_value N) μ3 μ4 → st (fun ν => bd (emh N 23 (kmp (nC T n)) 0 (nL T n) (-1) ν) (fun z => k0 z)) μ4 μ5 → R 0 o e n [] μ μ5
def cl_unary (N : Nat) (T : mS) (R : EJ) : Prop := ∀ o e n μ μ1 μ2 μ3, nK T n = 13 → R 0 o 0 (nA T n) [] μ μ1 → st (mm_value N) μ1 μ2 → st (fun ν => bd (em N (uno (nC T n)) 0 0 0 (nL T n) ν) (fun z => k0 z)) μ2 μ3 → R 0 (o + 1) e n [] μ μ3
def cl_table (N : Nat) (T : mS) (R : EJ) : Prop := ∀ o e n μ μ1 μ2 μ3, nK T n = 14 → st (emh N 18 0 0 (nL T n) 1) μ μ1 → R 4 o 0 (nA T n) [0, nL T n] μ1 μ2 → st k0 μ2 μ3 → R 0 (o + 1) e n [] μ μ3
/-- fields of tables -/
def cl_f0 (R : EJ) : Prop := ∀ o e i l μ μ', m_fr slP μ μ' → R 4 o e (-1) [i, l] μ μ'
def cl_fword (N : Nat) (W : WD) (T : mS) (R : EJ) : Prop := ∀ o e f i l s μ μ1 μ2 μ3 μ4 μ5, f ≠ -1 → nK T f = 16 → nK T (nA T f) = 4 → nS W T (nA T f) s → st (fun ν => mm_string N ν s) μ μ1 → R 0 o 32 (nB T f) [] μ1 μ2 → st (mm_value N) μ2 μ3 → st (emh N 19 0 0 (nL T f) (-2)) μ3 μ4 → R 4 o e (nX T f) [i, l] μ4 μ5 → R 4 o e f [i, l] μ μ5
def cl_fkey (N : Nat) (T : mS) (R : EJ) : Prop := ∀ o e f i l μ μ1 μ2 μ3 μ4 μ5 μ6, f ≠ -1 → nK T f = 16 → R 0 o 32 (nA T f) [] μ μ1 → st (mm_value N) μ1 μ2 → R 0 (o + 1) 32 (nB T f) [] μ2 μ3 → st (mm_value N) μ3 μ4 → st (emh N 19 0 0 (nL T f) (-2)) μ4 μ5 → R 4 (o + 1) e (nX T f) [i, l] μ5 μ6 → R 4 (o + 1) e f [i, l] μ μ6
def cl_fall (N : Nat) (T : mS) (R : EJ) : Prop := ∀ o e f i l μ μ1 μ2, f ≠ -1 → nK T f = 15 → nX T f = -1 → R 0 o 32 (nA T f) [] μ μ1 → isMn μ1 → st (fun ν => bd (mm_give N ν (-1)) (fun z => em N 21 (i + 1) 0 0 l z)) μ1 μ2 → R 4 o e f [i, l] μ μ2
def cl_fone (N : Nat) (T : mS) (R : EJ) : Prop := ∀ o e f i l μ μ1 μ2 μ3 μ4, f ≠ -1 → nK T f = 15 → R 0 o 32 (nA T f) [] μ μ1 → ¬ (nX T f = -1 ∧ isMn μ1) → st (mm_value N) μ1 μ2 → st (emh N 20 (i + 1) 0 l (-1)) μ2 μ3 → R 4 o e (nX T f) [i + 1, l] μ3 μ4 → R 4 o e f [i, l] μ μ4
/-- lists of expressions: more behind one that was read -/
def cl_x0 (T : mS) (R : EJ) : Prop := ∀ o e n m h μ μ', nX T n = -1 → m_fr slP μ μ' → R 1 o e n [m, h, h] μ μ'
def cl_x1 (N : Nat) (T : mS) (R : EJ) : Prop := ∀ o e n m h h' μ μ1 μ2 μ3, nX T n ≠ -1 → h ≤ m → st (mm_value N) μ μ1 → R 0 o 32 (nX T n) [] μ1 μ2 → R 1 o e (nX T n) [m, h + 1, h'] μ2 μ3 → R 1 o e n [m, h, h'] μ μ3
def cl_x2 (N : Nat) (T : mS) (R : EJ) : Prop := ∀ o e n m h h' μ μ1 μ2 μ3 μ4, nX T n ≠ -1 → m < h → st (mm_value N) μ μ1 → st (fun ν => bd (mm_higher N ν (-1)) (fun z => em N 41 (hgt z) 0 0 0 z)) μ1 μ2 → R 0 o 32 (nX T n) [] μ2 μ3 → R 1 o e (nX T n) [m, h + (-1) + 1, h'] μ3 μ4 → R 1 o e n [m, h, h'] μ μ4
def cl_list (R : EJ) : Prop := ∀ o e n m h μ μ1 μ2, n ≠ -1 → R 0 o 32 n [] μ μ1 → R 1 o 0 n [m, 1, h] μ1 μ2 → R 2 o e n [m, h] μ μ2
/-- arguments -/
def cl_a0 (R : EJ) : Prop := ∀ o e μ μ', m_fr slP μ μ' → R 3 o e (-1) [0] μ μ'
def cl_astr (N : Nat) (W : WD) (T : mS) (R : EJ) : Prop := ∀ o e n s μ μ', n ≠ -1 → nK T n = 4 → nX T n = -1 → nS W T n s → st (fun ν => mm_string N ν s) μ μ' → R 3 o e n [0] μ μ'
def cl_atab (T : mS) (R : EJ) : Prop := ∀ o e n μ μ', n ≠ -1 → nK T n = 14 → nX T n = -1 → R 0 o 0 n [] μ μ' → R 3 o e n [0] μ μ'
def cl_aone (N : Nat) (R : EJ) : Prop := ∀ o e n h μ μ1 μ2, R 2 o 0 n [100, h] μ μ1 → ¬ isMn μ1 → st (mm_value N) μ1 μ2 → R 3 (o + 1) e n [0] μ μ2
def cl_aall (N : Nat) (R : EJ) : Prop := ∀ o e n h μ μ1 μ2, R 2 o 0 n [100, h] μ μ1 → isMn μ1 → st (fun ν => mm_give N ν (-1)) μ1 μ2 → R 3 (o + 1) e n [1] μ μ2
/-- words that become locals: with the look at how many there are, and without -/
def dcw (N : Nat) (s line : Int32) (ν : mS) : Option mS := gd (inB (sF ν 85) 48) (bd (mm_declare N ν s (hgt ν) line) (fun z => mm_higher N z 1))
def cl_p0 (R : EJ) : Prop := ∀ o e l μ μ', m_fr slP μ μ' → R 8 o e (-1) [l] μ μ'
def cl_p1 (N : Nat) (W : WD) (T : mS) (R : EJ) : Prop := ∀ o e w l s μ μ1 μ2 μ3, w ≠ -1 → nK T w = 7 → nS W T w s → st (fun ν => mm_holds N ν 1 (nP T w) (nL T w)) μ μ1 → st (dcw N s l) μ1 μ2 → R 8 o e (nX T w) [l] μ2 μ3 → R 8 o e w [l] μ μ3
def cl_h0 (R : EJ) : Prop := ∀ o e k μ μ', m_fr slP μ μ' → R 11 o e (-1) [k] μ μ'
def cl_h1 (N : Nat) (T : mS) (R : EJ) : Prop := ∀ o e w k μ μ1 μ2, w ≠ -1 → nK T w = 7 → st (fun ν => mm_holds N ν k (nP T w) (nL T w)) μ μ1 → R 11 o e (nX T w) [k + 1] μ1 μ2 → R 11 o e w [k] μ μ2
def cl_d0 (R : EJ) : Prop := ∀ o e l μ μ', m_fr slP μ μ' → R 12 o e (-1) [l] μ μ'
def cl_d1 (N : Nat) (W : WD) (T : mS) (R : EJ) : Prop := ∀ o e w l s μ μ1 μ2, w ≠ -1 → nK T w = 7 → nS W T w s → st (dcw N s l) μ μ1 → R 12 o e (nX T w) [l] μ1 μ2 → R 12 o e w [l] μ μ2
/-- a function's body -/
def slf (N : Nat) (l : Int32) (ν : mS) : Option mS := bd (mm_declare N ν (sF ν 129) 0 l) (fun z => mm_higher N z 1)
def bw1 (r b : Int32) (ν : mS) : Option mS := gd (inB b 9000) (some (if r = 0 then ν else md_ai ν 78 b.toNatClampNeg 1))
def bw2 (b : Int32) (ν : mS) : Option mS := gd (inB (sF ν 85) 48) (gd (inB b 9000) (some (md_ai ν 77 b.toNatClampNeg (hgt ν))))
def bw3 (N : Nat) (j b l : Int32) (ν : mS) : Option mS := bd (fst j ν) (fun z => bd (emh N 22 b 0 l 1 z) (fun z1 => k0 z1))
def cl_body (N : Nat) (T : mS) (R : EJ) : Prop := ∀ o e f j b μ μ1 μ2 μ3 μ4 μ5 μ6 μ7 μ8, sv (fun ν => mm_emit N ν 28 0 0 0 0) j μ μ1 → sv (fun ν => mm_beginBody N ν (sI T 588 f)) b μ1 μ2 → b = sF T 82 + f → sI μ 87 (sF μ 85) = sF T 82 + sI T 589 f → R 8 o 0 (sI T 585 f) [sI T 588 f] μ2 μ3 → st (bw1 (sI T 586 f) b) μ3 μ4 → st (bw2 b) μ4 μ5 → R 6 o 0 (nA T (sI T 587 f)) [] μ5 μ6 → st (fun ν => mm_endBody N ν b) μ6 μ7 → st (bw3 N j b (sI T 588 f)) μ7 μ8 → R 5 o e f [0] μ μ8
def cl_mbody (N : Nat) (W : WD) (T : mS) (R : EJ) : Prop := ∀ o e f j b w μ μ1 μ2 μ22 μ3 μ4 μ5 μ6 μ7 μ8, sv (fun ν => mm_emit N ν 28 0 0 0 0) j μ μ1 → sv (fun ν => mm_beginBody N ν (sI T 588 f)) b μ1 μ2 → b = sF T 82 + f → sI μ 87 (sF μ 85) = sF T 82 + sI T 589 f → sI T 585 f = w → w ≠ -1 → nK T w = 7 → nS W T w (sF μ 129) → st (slf N (sI T 588 f)) μ2 μ22 → R 8 o 0 (nX T w) [sI T 588 f] μ22 μ3 → st (bw1 (sI T 586 f) b) μ3 μ4 → st (bw2 b) μ4 μ5 → R 6 o 0 (nA T (sI T 587 f)) [] μ5 μ6 → st (fun ν => mm_endBody N ν b) μ6 μ7 → st (bw3 N j b (sI T 588 f)) μ7 μ8 → R 5 o e f [1] μ μ8
/-- statements -/
def cl_s0 (R : EJ) : Prop := ∀ o e μ μ', m_fr slP μ μ' → R 6 o e (-1) [] μ μ'
def cl_s1 (T : mS) (R : EJ) : Prop := ∀ o e s μ μ1 μ2, s ≠ -1 → R 7 o 0 s [] μ μ1 → R 6 o 0 (nX T s) [] μ1 μ2 → R 6 o e s [] μ μ2
def cl_none (T : mS) (R : EJ) : Prop := ∀ o e s μ μ', nK T s = 35 → m_fr slP μ μ' → R 7 o e s [] μ μ'
def cl_label (N : Nat) (W : WD) (T : mS) (R : EJ) : Prop := ∀ o e s x μ μ', nK T s = 22 → nS W T s x → st (fun ν => mm_label_37 N N (nP T (nB T s)) (nL T (nB T s)) x 0 ν) μ μ' → R 7 o e s [] μ μ'
def pre (N : Nat) (l : Int32) (ν : mS) : Option mS := gd (inB (sF ν 106 - 1) 200) (em N 35 0 0 0 l (md_ai (md_pi ν 107 (sF ν 107 + 1)) 104 (sF ν 106 - 1).toNatClampNeg (sF ν 107 + 1)))
def cl_state (N : Nat) (T : mS) (R : EJ) : Prop := ∀ o e s μ μ1 μ2, nK T s ≠ 22 → nK T s ≠ 35 → st (pre N (nL T s)) μ μ1 → R 10 o 0 s [] μ1 μ2 → R 7 o e s [] μ μ2
def lv2 (N : Nat) (σ : mS) : Option mS := bd (mm_emit N σ 41 0 0 0 0) (fun z => gd (inB (sF σ 122) 4000) (em N 28 0 0 0 0 (md_pi (md_ai z.2 121 (sF σ 122).toNatClampNeg z.1) 122 (sF z.2 122 + 1))))
def lv1 (N : Nat) (p l : Int32) (σ : mS) : Option mS := gd (inB (sF σ 85) 48) (if sI σ 88 (sF σ 85) = 0 then bd (mm_stray N σ p l) (fun z => lv2 N z) else lv2 N σ)
def cl_break (N : Nat) (T : mS) (R : EJ) : Prop := ∀ o e s μ μ', nK T s = 23 → st (lv1 N (nP T s) (nL T s)) μ μ' → R 10 o e s [] μ μ'
def go1 (p : Int32) (σ : mS) : Option mS := gd (inB (sF σ 120) 4000) (some (md_ai σ 116 (sF σ 120).toNatClampNeg p))
def go2 (N : Nat) (s l : Int32) (σ : mS) : Option mS := gd (inB (sF σ 120) 4000) (bd (mm_emit N (md_ai σ 115 (sF σ 120).toNatClampNeg s) 41 0 0 0 0) (fun z => gd (inB (sF σ 85) 48) (em N 28 0 0 0 l (md_pi (md_ai (md_ai (md_ai z.2 117 (sF σ 120).toNatClampNeg z.1) 118 (sF σ 120).toNatClampNeg (hgt σ)) 119 (sF σ 120).toNatClampNeg (sF σ 97)) 120 (sF σ 120 + 1)))))
def cl_goto (N : Nat) (W : WD) (T : mS) (R : EJ) : Prop := ∀ o e s x μ μ1 μ2, nK T s = 24 → nS W T s x → st (go1 (nP T s)) μ μ1 → st (go2 N x (nL T s)) μ1 μ2 → R 10 o e s [] μ μ2
def cl_do (N : Nat) (T : mS) (R : EJ) : Prop := ∀ o e s μ μ1 μ2 μ3, nK T s = 25 → st (fun ν => mm_beginBlock N ν 0) μ μ1 → R 6 o 0 (nA T (nA T s)) [] μ1 μ2 → st (mm_endBlock N) μ2 μ3 → R 10 (o + 1) e s [] μ μ3
def lpp (k : Int32) (ν : mS) : Option mS := gd (inB (sF ν 85) 48) (some (md_ai ν 88 (sF ν 85).toNatClampNeg (sI ν 88 (sF ν 85) + k)))
def cl_while (N : Nat) (T : mS) (R : EJ) : Prop := ∀ o e s i μ μ1 μ2 μ3 μ4 μ5 μ6 μ7, nK T s = 26 → R 0 (o + 1) 32 (nA T s) [] μ μ1 → st (mm_value N) μ1 μ2 → sv (fun ν => mm_emit N ν 29 0 0 0 0) i μ2 μ3 → st (fun ν => bd (mm_higher N ν (-1)) (fun z => bd (em N 36 0 0 0 (nL T s) z) (fun z1 => bd (lpp 1 z1) (fun z2 => mm_beginBlock N z2 0)))) μ3 μ4 → R 6 o 0 (nA T (nB T s)) [] μ4 μ5 → st (mm_endBlock N) μ5 μ6 → st (fun ν => bd (lpp (-1) ν) (fun z => bd (em N 28 (sF μ 75) 0 0 0 z) (fun z1 => bd (fst i z1) (fun z2 => mm_land N z2 (sF μ 122) (hgt μ))))) μ6 μ7 → R 10 (o + 1) e s [] μ μ7
def cl_repeat (N : Nat) (T : mS) (R : EJ) : Prop := ∀ o e s μ μ1 μ2 μ3 μ4 μ5 μ6, nK T s = 27 → st (fun ν => bd (em N 36 0 0 0 (nL T s) ν) (fun z => bd (lpp 1 z) (fun z1 => mm_beginBlock N z1 1))) μ μ1 → R 6 o 0 (nA T (nA T s)) [] μ1 μ2 → st (lpp (-1)) μ2 μ3 → R 0 (o + 1) 32 (nB T s) [] μ3 μ4 → st (mm_value N) μ4 μ5 → st (fun ν => bd (emh N 42 (hgt μ) (sF μ 75) 0 (-1) ν) (fun z => gd (inB (sF z 85) 48) (bd (mm_endBlock N (md_ai z 86 (sF z 85).toNatClampNeg (hgt μ))) (fun z1 => mm_land N z1 (sF μ 122) (hgt μ))))) μ5 μ6 → R 10 (o + 1) e s [] μ μ6
/-- choices: i the act of the latest jump to the end -/
def pch (n : Nat) (i : Int32) (σ : mS) : Option mS := match n with
  | 0 => none
  | n + 1 => if i < 0 then some σ else gd (inB i 160000) (pch n (sI σ 71 i) (md_ai σ 71 i.toNatClampNeg (sF σ 75)))
def cl_if (T : mS) (R : EJ) : Prop := ∀ o e s μ μ', nK T s = 28 → R 9 o 0 s [-1] μ μ' → R 10 (o + 1) e s [] μ μ'
def brB (N : Nat) (T : mS) (R : EJ) (o : Nat) (n i : Int32) (μ μ5 : mS) : Prop := ∃ μ1 μ2 μ3 μ4, R 0 o 32 (nA T n) [] μ μ1 ∧ st (mm_value N) μ1 μ2 ∧ sv (fun ν => mm_emit N ν 29 0 0 0 0) i μ2 μ3 ∧ st (fun ν => bd (mm_higher N ν (-1)) (fun z => mm_beginBlock N z 0)) μ3 μ4 ∧ ∃ μ', R 6 o 0 (nA T (nB T n)) [] μ4 μ' ∧ st (mm_endBlock N) μ' μ5
def cl_br0 (N : Nat) (T : mS) (R : EJ) : Prop := ∀ o e n i j μ μ1 μ2 μ3, nK T n = 28 → nC T n = -1 → brB N T R o n i μ μ1 → st (fst i) μ1 μ2 → st (pch N j) μ2 μ3 → R 9 o e n [j] μ μ3
def cl_br1 (N : Nat) (T : mS) (R : EJ) : Prop := ∀ o e n i j k μ μ1 μ2 μ3 μ4, nK T n = 28 → nK T (nC T n) = 28 → nC T n ≠ -1 → brB N T R o n i μ μ1 → sv (fun ν => mm_emit N ν 28 j 0 0 0) k μ1 μ2 → st (fst i) μ2 μ3 → R 9 o e (nC T n) [k] μ3 μ4 → R 9 o e n [j] μ μ4
def cl_br2 (N : Nat) (T : mS) (R : EJ) : Prop := ∀ o e n i j k μ μ1 μ2 μ3 μ4 μ5 μ6 μ7, nK T n = 28 → nK T (nC T n) = 36 → nC T n ≠ -1 → brB N T R o n i μ μ1 → sv (fun ν => mm_emit N ν 28 j 0 0 0) k μ1 μ2 → st (fst i) μ2 μ3 → st (fun ν => mm_beginBlock N ν 0) μ3 μ4 → R 6 o 0 (nA T (nC T n)) [] μ4 μ5 → st (mm_endBlock N) μ5 μ6 → st (pch N k) μ6 μ7 → R 9 o e n [j] μ μ7
/-- loops over numbers -/
def stp (N : Nat) (s h l p wl : Int32) (ν : mS) : Option mS := bd (em N 36 0 0 0 l ν) (fun z => bd (lpp 1 z) (fun z1 => bd (mm_beginBlock N z1 0) (fun z2 => bd (mm_holds N z2 1 p wl) (fun z3 => bd (em N 5 h (-1) 0 0 z3) (fun z4 => dcw N s l z4)))))
def ste (N : Nat) (a h i f : Int32) (ν : mS) : Option mS := bd (lpp (-1) ν) (fun z => bd (em N 38 a h 0 0 z) (fun z1 => bd (fst i z1) (fun z2 => bd (em N 41 h 0 0 0 z2) (fun z3 => gd (inB (sF z3 85) 48) (mm_land N (md_ai z3 86 (sF z3 85).toNatClampNeg h) f h)))))
def cl_steps (N : Nat) (W : WD) (T : mS) (R : EJ) : Prop := ∀ o e s x i a b μ μ1 μ2 μ3 μ4 μ5 μ6 μ7 μ8 μ9 μa, nK T s = 29 → nS W T (nA T s) x → nK T (nA T s) = 7 → nB T s = a → a ≠ -1 → nX T a = b → b ≠ -1 → R 0 (o + 1) 32 a [] μ μ1 → st (mm_value N) μ1 μ2 → R 0 (o + 1) 32 b [] μ2 μ3 → st (mm_value N) μ3 μ4 → (nX T b = -1 ∧ st (emh N 2 1 0 0 1) μ4 μ5) ∨ (nX T b ≠ -1 ∧ ∃ μ', R 0 (o + 1) 32 (nX T b) [] μ4 μ' ∧ st (mm_value N) μ' μ5) → sv (fun ν => mm_emit N ν 37 0 (hgt μ) 0 (nL T s)) i μ5 μ6 → st (stp N x (hgt μ) (nL T s) (nP T (nA T s)) (nL T (nA T s))) μ6 μ7 → R 6 o 0 (nA T (nC T s)) [] μ7 μ8 → st (mm_endBlock N) μ8 μ9 → st (ste N (sF μ6 75) (hgt μ) i (sF μ 122)) μ9 μa → R 10 (o + 1) e s [] μ μa
/-- loops over what a function gives -/
def eae (N : Nat) (a h i f : Int32) (ν : mS) : Option mS := bd (lpp (-1) ν) (fun z => bd (em N 28 a 0 0 0 z) (fun z1 => bd (fst i z1) (fun z2 => bd (em N 41 h 0 0 0 z2) (fun z3 => gd (inB (sF z3 85) 48) (mm_land N (md_ai z3 86 (sF z3 85).toNatClampNeg h) f h)))))
def cl_each (N : Nat) (T : mS) (R : EJ) : Prop := ∀ o e s ws h a i μ μ1 μ2 μ3 μ4 μ5 μ6 μ7 μ8 μ9, nK T s = 30 → seg (nX T) (nA T s) ws (-1) → nA T s ≠ -1 → R 2 (o + 1) 0 (nB T s) [3, h] μ μ1 → st (fun ν => mm_adjust N ν h 3) μ1 μ2 → sv (fun ν => mm_emit N ν 39 (hgt μ) (Int32.ofNat ws.length) 0 (nL T s)) a μ2 μ3 → sv (fun ν => mm_emit N ν 40 0 (hgt μ) 0 0) i μ3 μ4 → st (fun ν => bd (em N 36 0 0 0 (nL T s) ν) (fun z => bd (lpp 1 z) (fun z1 => mm_beginBlock N z1 0))) μ4 μ5 → R 8 o 0 (nA T s) [nL T s] μ5 μ6 → R 6 o 0 (nA T (nC T s)) [] μ6 μ7 → st (mm_endBlock N) μ7 μ8 → st (eae N a (hgt μ) i (sF μ 122)) μ8 μ9 → R 10 (o + 1) e s [] μ μ9
/-- functions that are told by statements -/
def rst (ν κ : mS) : mS := md_pi (md_pi (md_pi (md_pi ν 125 (sF κ 125)) 126 (sF κ 126)) 127 (sF κ 127)) 128 (sF κ 128)
def cl_fun (N : Nat) (T : mS) (R : EJ) : Prop := ∀ o e s x μ μ1 μ2 μ3, nK T s = 31 → nK T (nB T s) = 6 → R 0 o 32 (nA T s) [] μ μ1 → nK T (nA T s) = 7 ∨ nK T (nA T s) = 8 → R 5 o 0 (nA T (nB T s)) [x] μ1 μ2 → st (fun ν => mm_store N (rst ν μ1)) μ2 μ3 → R 10 (o + 1) e s [] μ μ3
def cl_lfun (N : Nat) (W : WD) (T : mS) (R : EJ) : Prop := ∀ o e s x μ μ1 μ2 μ3 μ4, nK T s = 32 → nK T (nB T s) = 6 → nK T (nA T s) = 7 → nX T (nA T s) = -1 → nS W T (nA T s) x → st (fun ν => mm_holds N ν 1 (nP T (nA T s)) (nL T (nA T s))) μ μ1 → st (fun ν => bd (em N 0 0 0 0 0 ν) (fun z => dcw N x (nL T s) z)) μ1 μ2 → R 5 o 0 (nA T (nB T s)) [0] μ2 μ3 → st (emh N 6 (hgt μ1) (sF μ1 99) 0 (-1)) μ3 μ4 → R 10 (o + 1) e s [] μ μ4
def hsb (k : Int32) (ν : mS) : Option mS := gd (inB (sF ν 85) 48) (some (md_ai ν 86 (sF ν 85).toNatClampNeg (hgt ν - k)))
def nls (N k : Nat) (ν : mS) : Option mS := match k with
  | 0 => some ν
  | k + 1 => bd (em N 0 0 0 0 0 ν) (fun z => nls N k z)
def cl_loc0 (N : Nat) (T : mS) (R : EJ) : Prop := ∀ o e s ws μ μ1 μ2 μ3, nK T s = 33 → nB T s = -1 → seg (nX T) (nA T s) ws (-1) → nA T s ≠ -1 → R 11 o 0 (nA T s) [1] μ μ1 → st (fun ν => bd (nls N ws.length ν) (fun z => bd (mm_higher N z (Int32.ofNat ws.length)) (fun z1 => hsb (Int32.ofNat ws.length) z1))) μ1 μ2 → R 12 o 0 (nA T s) [nL T s] μ2 μ3 → R 10 o e s [] μ μ3
def cl_loc1 (N : Nat) (T : mS) (R : EJ) : Prop := ∀ o e s ws h μ μ1 μ2 μ3 μ4 μ5, nK T s = 33 → nB T s ≠ -1 → seg (nX T) (nA T s) ws (-1) → nA T s ≠ -1 → R 11 o 0 (nA T s) [1] μ μ1 → R 2 o 0 (nB T s) [Int32.ofNat ws.length, h] μ1 μ2 → st (fun ν => mm_adjust N ν h (Int32.ofNat ws.length)) μ2 μ3 → st (hsb (Int32.ofNat ws.length)) μ3 μ4 → R 12 o 0 (nA T s) [nL T s] μ4 μ5 → R 10 o e s [] μ μ5
/-- what is given back -/
def retE (N : Nat) (h a l : Int32) (ν : mS) : Option mS := bd (em N 34 (hgt ν - h) a 0 l ν) (fun z => gd (inB (sF z 85) 48) (some (md_ai z 86 (sF z 85).toNatClampNeg h)))
def cl_ret0 (N : Nat) (T : mS) (R : EJ) : Prop := ∀ o e s μ μ1, nK T s = 34 → nA T s = -1 → st (fun ν => bd (em N 34 0 0 0 (nL T s) ν) (fun z => gd (inB (sF z 85) 48) (some (md_ai z 86 (sF z 85).toNatClampNeg (hgt μ))))) μ μ1 → R 10 o e s [] μ μ1
def cl_retl (N : Nat) (T : mS) (R : EJ) : Prop := ∀ o e s μ μ1 μ2, nK T s = 34 → nA T s ≠ -1 → R 2 o 0 (nA T s) [100, 1] μ μ1 → sF μ1 125 = 5 → st (fun ν => gd (inB (sF ν 126) 160000) (gd (inB (sF ν 85) 48) (some (md_ai (md_pi (md_ai ν 70 (sF ν 126).toNatClampNeg 33) 125 0) 86 (sF ν 85).toNatClampNeg (hgt μ))))) μ1 μ2 → R 10 o e s [] μ μ2
def cl_reta (N : Nat) (T : mS) (R : EJ) : Prop := ∀ o e s h μ μ1 μ2, nK T s = 34 → nA T s ≠ -1 → R 2 o 0 (nA T s) [100, h] μ μ1 → ¬ (h = 1 ∧ sF μ1 125 = 5) → isMn μ1 → st (fun ν => bd (mm_give N ν (-1)) (fun z => retE N (hgt μ) 1 (nL T s) z)) μ1 μ2 → R 10 o e s [] μ μ2
def cl_ret (N : Nat) (T : mS) (R : EJ) : Prop := ∀ o e s h μ μ1 μ2, nK T s = 34 → nA T s ≠ -1 → R 2 o 0 (nA T s) [100, h] μ μ1 → ¬ isMn μ1 → st (fun ν => bd (mm_value N ν) (fun z => retE N (hgt μ) 0 (nL T s) z)) μ1 μ2 → R 10 o e s [] μ μ2
/-- a call as a statement; what is set: the targets are told by what they are, a place or a name, a variable, a line -/
def cl_scall (N : Nat) (T : mS) (R : EJ) : Prop := ∀ o e s μ μ1 μ2, nK T s = 21 → R 0 o 32 (nA T s) [] μ μ1 → sF μ1 125 = 5 → st (fun ν => mm_give N ν 0) μ1 μ2 → R 10 o e s [] μ μ2
def tgt (μ : mS) : List Int32 := [sF μ 125, if sF μ 125 = 4 then hgt μ - 2 else sF μ 126, sF μ 127, sF μ 128]
def isTg (μ : mS) : Prop := sF μ 125 = 1 ∨ sF μ 125 = 2 ∨ sF μ 125 = 3 ∨ sF μ 125 = 4
def cl_t0 (T : mS) (R : EJ) : Prop := ∀ o e v μ μ1, v ≠ -1 → nX T v = -1 → nK T v = 7 ∨ nK T v = 8 → R 0 o 32 v [] μ μ1 → isTg μ1 → R 13 o e v (tgt μ1) μ μ1
def cl_t1 (T : mS) (R : EJ) : Prop := ∀ o e v xs μ μ1 μ2, v ≠ -1 → nX T v ≠ -1 → nK T v = 7 ∨ nK T v = 8 → R 0 o 32 v [] μ μ1 → isTg μ1 → R 13 o e (nX T v) xs μ1 μ2 → R 13 o e v (tgt μ1 ++ xs) μ μ2
def set1 (N : Nat) (xs : List Int32) (ν : mS) : Option mS := mm_store N (md_pi (md_pi (md_pi (md_pi ν 125 (xs.getD 0 0)) 126 (xs.getD 1 0)) 127 (xs.getD 2 0)) 128 (xs.getD 3 0))
def cl_set1 (N : Nat) (T : mS) (R : EJ) : Prop := ∀ o e s h xs μ μ1 μ2 μ3 μ4, nK T s = 20 → nX T (nA T s) = -1 → R 13 o 0 (nA T s) xs μ μ1 → R 2 o 0 (nB T s) [1, h] μ1 μ2 → st (fun ν => mm_adjust N ν h 1) μ2 μ3 → st (set1 N xs) μ3 μ4 → R 10 o e s [] μ μ4
def mva (k : Int32) : Int32 := if k = 1 then 8 else if k = 2 then 11 else if k = 3 then 14 else 17
def mvs (N : Nat) (v : Int32) : List Int32 → mS → Option mS
  | k :: a :: b :: l :: r, ν => bd (em N (mva k) a b v (if mva k = 14 ∨ mva k = 17 then l else 0) ν) (fun z => mvs N (v + 1) r z)
  | _, ν => some ν
def cl_set (N : Nat) (T : mS) (R : EJ) : Prop := ∀ o e s h vs xs μ μ1 μ2 μ3 μ4, nK T s = 20 → nX T (nA T s) ≠ -1 → seg (nX T) (nA T s) vs (-1) → R 13 o 0 (nA T s) xs μ μ1 → R 2 o 0 (nB T s) [Int32.ofNat vs.length, h] μ1 μ2 → st (fun ν => mm_adjust N ν h (Int32.ofNat vs.length)) μ2 μ3 → st (fun ν => bd (mvs N (hgt ν - Int32.ofNat vs.length) xs ν) (fun z => bd (em N 41 (hgt μ) 0 0 0 z) (fun z1 => gd (inB (sF z1 85) 48) (some (md_ai z1 86 (sF z1 85).toNatClampNeg (hgt μ)))))) μ3 μ4 → R 10 o e s [] μ μ4
/-- what counts not may change before and behind -/
def cl_sl (R : EJ) : Prop := ∀ g o e n xs μ ν ν' μ', m_fr slP μ ν → R g o e n xs ν ν' → m_fr slP ν' μ' → R g o e n xs μ μ'
/-- all of it -/
def CLO (N : Nat) (W : WD) (T : mS) (R : EJ) : Nat → Prop
  | 0 => cl_nil N T R
  | 1 => cl_false N T R
  | 2 => cl_true N T R
  | 3 => cl_number N T R
  | 4 => cl_string N W T R
  | 5 => cl_others N T R
  | 6 => cl_function T R
  | 7 => cl_name N W T R
  | 8 => cl_dot N W T R
  | 9 => cl_index N T R
  | 10 => cl_call N T R
  | 11 => cl_method N W T R
  | 12 => cl_brackets N T R
  | 13 => cl_logic N T R
  | 14 => cl_two N T R
  | 15 => cl_unary N T R
  | 16 => cl_table N T R
  | 17 => cl_f0 R
  | 18 => cl_fword N W T R
  | 19 => cl_fkey N T R
  | 20 => cl_fall N T R
  | 21 => cl_fone N T R
  | 22 => cl_x0 T R
  | 23 => cl_x1 N T R
  | 24 => cl_x2 N T R
  | 25 => cl_list R
  | 26 => cl_a0 R
  | 27 => cl_astr N W T R
  | 28 => cl_atab T R
  | 29 => cl_aone N R
  | 30 => cl_aall N R
  | 31 => cl_p0 R
  | 32 => cl_p1 N W T R
  | 33 => cl_h0 R
  | 34 => cl_h1 N T R
  | 35 => cl_d0 R
  | 36 => cl_d1 N W T R
  | 37 => cl_body N T R
  | 38 => cl_mbody N W T R
  | 39 => cl_s0 R
  | 40 => cl_s1 T R
  | 41 => cl_none T R
  | 42 => cl_label N W T R
  | 43 => cl_state N T R
  | 44 => cl_break N T R
  | 45 => cl_goto N W T R
  | 46 => cl_do N T R
  | 47 => cl_while N T R
  | 48 => cl_repeat N T R
  | 49 => cl_if T R
  | 50 => cl_br0 N T R
  | 51 => cl_br1 N T R
  | 52 => cl_br2 N T R
  | 53 => cl_steps N W T R
  | 54 => cl_each N T R
  | 55 => cl_fun N T R
  | 56 => cl_lfun N W T R
  | 57 => cl_loc0 N T R
  | 58 => cl_loc1 N T R
  | 59 => cl_ret0 N T R
  | 60 => cl_retl N T R
  | 61 => cl_reta N T R
  | 62 => cl_ret N T R
  | 63 => cl_scall N T R
  | 64 => cl_t0 T R
  | 65 => cl_t1 T R
  | 66 => cl_set1 N T R
  | 67 => cl_set N T R
  | 68 => cl_sl R
  | _ => True
/-- the least relation of this kind -/
def EMR (N : Nat) (W : WD) (T : mS) : EJ := fun g o e n xs μ μ' => ∀ R : EJ, (∀ k, CLO N W T R k) → R g o e n xs μ μ'
/-- it is one of these -/
theorem brB_mono {N : Nat} {W : WD} {T : mS} {R : EJ} (hR : ∀ k, CLO N W T R k) {o : Nat} {n i : Int32} {μ μ' : mS} (h : brB N T (EMR N W T) o n i μ μ') : brB N T R o n i μ μ' := by
  obtain ⟨μ1, μ2, μ3, μ4, a, b, c, d, μ5, e, f⟩ := h
  exact ⟨μ1, μ2, μ3, μ4, a R hR, b, c, d, μ5, e R hR, f⟩
theorem ei_nil {N : Nat} {W : WD} {T : mS} : cl_nil N T (EMR N W T) := fun o e n μ μ' h0 h1 R hR => hR 0 o e n μ μ' h0 h1
theorem ei_false {N : Nat} {W : WD} {T : mS} : cl_false N T (EMR N W T) := fun o e n μ μ' h0 h1 R hR => hR 1 o e n μ μ' h0 h1
theorem ei_true {N : Nat} {W : WD} {T : mS} : cl_true N T (EMR N W T) := fun o e n μ μ' h0 h1 R hR => hR 2 o e n μ μ' h0 h1
theorem ei_number {N : Nat} {W : WD} {T : mS} : cl_number N T (EMR N W T) := fun o e n μ μ' h0 h1 R hR => hR 3 o e n μ μ' h0 h1
theorem ei_string {N : Nat} {W : WD} {T : mS} : cl_string N W T (EMR N W T) := fun o e n s μ μ' h0 h1 h2 R hR => hR 4 o e n s μ μ' h0 h1 h2
theorem ei_others {N : Nat} {W : WD} {T : mS} : cl_others N T (EMR N W T) := fun o e n μ μ' h0 h1 R hR => hR 5 o e n μ μ' h0 h1
theorem ei_function {N : Nat} {W : WD} {T : mS} : cl_function T (EMR N W T) := fun o e n μ μ' h0 h1 R hR => hR 6 o e n μ μ' h0 (h1 R hR)
theorem ei_name {N : Nat} {W : WD} {T : mS} : cl_name N W T (EMR N W T) := fun o e n s μ μ' h0 h1 h2 R hR => hR 7 o e n s μ μ' h0 h1 h2
theorem ei_dot {N : Nat} {W : WD} {T : mS} : cl_dot N W T (EMR N W T) := fun o e n s μ μ1 μ2 μ3 h0 h1 h2 h3 h4 h5 R hR => hR 8 o e n s μ μ1 μ2 μ3 h0 (h1 R hR) h2 h3 h4 h5
theorem ei_index {N : Nat} {W : WD} {T : mS} : cl_index N T (EMR N W T) := fun o e n μ μ1 μ2 μ3 μ4 μ5 h0 h1 h2 h3 h4 h5 R hR => hR 9 o e n μ μ1 μ2 μ3 μ4 μ5 h0 (h1 R hR) h2 (h3 R hR) h4 h5
theorem ei_call {N : Nat} {W : WD} {T : mS} : cl_call N T (EMR N W T) := fun o e n all μ μ1 μ2 μ3 μ4 h0 h1 h2 h3 h4 R hR => hR 10 o e n all μ μ1 μ2 μ3 μ4 h0 (h1 R hR) h2 (h3 R hR) h4
theorem ei_method {N : Nat} {W : WD} {T : mS} : cl_method N W T (EMR N W T) := fun o e n s all μ μ1 μ2 μ3 μ4 μ5 μ6 h0 h1 h2 h3 h4 h5 h6 h7 h8 R hR => hR 11 o e n s all μ μ1 μ2 μ3 μ4 μ5 μ6 h0 (h1 R hR) h2 h3 h4 h5 h6 (h7 R hR) h8
theorem ei_brackets {N : Nat} {W : WD} {T : mS} : cl_brackets N T (EMR N W T) := fun o e n μ μ1 μ2 h0 h1 h2 R hR => hR 12 o e n μ μ1 μ2 h0 (h1 R hR) h2
theorem ei_logic {N : Nat} {W : WD} {T : mS} : cl_logic N T (EMR N W T) := fun o e d n i μ μ1 μ2 μ3 μ4 μ5 μ6 μ7 h0 h1 h2 h3 h4 h5 h6 h7 h8 h9 R hR => hR 13 o e d n i μ μ1 μ2 μ3 μ4 μ5 μ6 μ7 h0 h1 (h2 R hR) h3 h4 h5 h6 (h7 R hR) h8 h9
theorem ei_two {N : Nat} {W : WD} {T : mS} : cl_two N T (EMR N W T) := fun o e o' d n μ μ1 μ2 μ3 μ4 μ5 h0 h1 h2 h3 h4 h5 h6 h7 R hR => hR 14 o e o' d n μ μ1 μ2 μ3 μ4 μ5 h0 h1 (h2 R hR) h3 h4 (h5 R hR) h6 h7
theorem ei_unary {N : Nat} {W : WD} {T : mS} : cl_unary N T (EMR N W T) := fun o e n μ μ1 μ2 μ3 h0 h1 h2 h3 R hR => hR 15 o e n μ μ1 μ2 μ3 h0 (h1 R hR) h2 h3
theorem ei_table {N : Nat} {W : WD} {T : mS} : cl_table N T (EMR N W T) := fun o e n μ μ1 μ2 μ3 h0 h1 h2 h3 R hR => hR 16 o e n μ μ1 μ2 μ3 h0 h1 (h2 R hR) h3
theorem ei_f0 {N : Nat} {W : WD} {T : mS} : cl_f0 (EMR N W T) := fun o e i l μ μ' h0 R hR => hR 17 o e i l μ μ' h0
theorem ei_fword {N : Nat} {W : WD} {T : mS} : cl_fword N W T (EMR N W T) := fun o e f i l s μ μ1 μ2 μ3 μ4 μ5 h0 h1 h2 h3 h4 h5 h6 h7 h8 R hR => hR 18 o e f i l s μ μ1 μ2 μ3 μ4 μ5 h0 h1 h2 h3 h4 (h5 R hR) h6 h7 (h8 R hR)
theorem ei_fkey {N : Nat} {W : WD} {T : mS} : cl_fkey N T (EMR N W T) := fun o e f i l μ μ1 μ2 μ3 μ4 μ5 μ6 h0 h1 h2 h3 h4 h5 h6 h7 R hR => hR 19 o e f i l μ μ1 μ2 μ3 μ4 μ5 μ6 h0 h1 (h2 R hR) h3 (h4 R hR) h5 h6 (h7 R hR)
theorem ei_fall {N : Nat} {W : WD} {T : mS} : cl_fall N T (EMR N W T) := fun o e f i l μ μ1 μ2 h0 h1 h2 h3 h4 h5 R hR => hR 20 o e f i l μ μ1 μ2 h0 h1 h2 (h3 R hR) h4 h5
theorem ei_fone {N : Nat} {W : WD} {T : mS} : cl_fone N T (EMR N W T) := fun o e f i l μ μ1 μ2 μ3 μ4 h0 h1 h2 h3 h4 h5 h6 R hR => hR 21 o e f i l μ μ1 μ2 μ3 μ4 h0 h1 (h2 R hR) h3 h4 h5 (h6 R hR)
theorem ei_x0 {N : Nat} {W : WD} {T : mS} : cl_x0 T (EMR N W T) := fun o e n m h μ μ' h0 h1 R hR => hR 22 o e n m h μ μ' h0 h1
theorem ei_x1 {N : Nat} {W : WD} {T : mS} : cl_x1 N T (EMR N W T) := fun o e n m h h' μ μ1 μ2 μ3 h0 h1 h2 h3 h4 R hR => hR 23 o e n m h h' μ μ1 μ2 μ3 h0 h1 h2 (h3 R hR) (h4 R hR)
theorem ei_x2 {N : Nat} {W : WD} {T : mS} : cl_x2 N T (EMR N W T) := fun o e n m h h' μ μ1 μ2 μ3 μ4 h0 h1 h2 h3 h4 h5 R hR => hR 24 o e n m h h' μ μ1 μ2 μ3 μ4 h0 h1 h2 h3 (h4 R hR) (h5 R hR)
theorem ei_list {N : Nat} {W : WD} {T : mS} : cl_list (EMR N W T) := fun o e n m h μ μ1 μ2 h0 h1 h2 R hR => hR 25 o e n m h μ μ1 μ2 h0 (h1 R hR) (h2 R hR)
theorem ei_a0 {N : Nat} {W : WD} {T : mS} : cl_a0 (EMR N W T) := fun o e μ μ' h0 R hR => hR 26 o e μ μ' h0
theorem ei_astr {N : Nat} {W : WD} {T : mS} : cl_astr N W T (EMR N W T) := fun o e n s μ μ' h0 h1 h2 h3 h4 R hR => hR 27 o e n s μ μ' h0 h1 h2 h3 h4
theorem ei_atab {N : Nat} {W : WD} {T : mS} : cl_atab T (EMR N W T) := fun o e n μ μ' h0 h1 h2 h3 R hR => hR 28 o e n μ μ' h0 h1 h2 (h3 R hR)
theorem ei_aone {N : Nat} {W : WD} {T : mS} : cl_aone N (EMR N W T) := fun o e n h μ μ1 μ2 h0 h1 h2 R hR => hR 29 o e n h μ μ1 μ2 (h0 R hR) h1 h2
theorem ei_aall {N : Nat} {W : WD} {T : mS} : cl_aall N (EMR N W T) := fun o e n h μ μ1 μ2 h0 h1 h2 R hR => hR 30 o e n h μ μ1 μ2 (h0 R hR) h1 h2
theorem ei_p0 {N : Nat} {W : WD} {T : mS} : cl_p0 (EMR N W T) := fun o e l μ μ' h0 R hR => hR 31 o e l μ μ' h0
theorem ei_p1 {N : Nat} {W : WD} {T : mS} : cl_p1 N W T (EMR N W T) := fun o e w l s μ μ1 μ2 μ3 h0 h1 h2 h3 h4 h5 R hR => hR 32 o e w l s μ μ1 μ2 μ3 h0 h1 h2 h3 h4 (h5 R hR)
theorem ei_h0 {N : Nat} {W : WD} {T : mS} : cl_h0 (EMR N W T) := fun o e k μ μ' h0 R hR => hR 33 o e k μ μ' h0
theorem ei_h1 {N : Nat} {W : WD} {T : mS} : cl_h1 N T (EMR N W T) := fun o e w k μ μ1 μ2 h0 h1 h2 h3 R hR => hR 34 o e w k μ μ1 μ2 h0 h1 h2 (h3 R hR)
theorem ei_d0 {N : Nat} {W : WD} {T : mS} : cl_d0 (EMR N W T) := fun o e l μ μ' h0 R hR => hR 35 o e l μ μ' h0
theorem ei_d1 {N : Nat} {W : WD} {T : mS} : cl_d1 N W T (EMR N W T) := fun o e w l s μ μ1 μ2 h0 h1 h2 h3 h4 R hR => hR 36 o e w l s μ μ1 μ2 h0 h1 h2 h3 (h4 R hR)
theorem ei_body {N : Nat} {W : WD} {T : mS} : cl_body N T (EMR N W T) := fun o e f j b μ μ1 μ2 μ3 μ4 μ5 μ6 μ7 μ8 h0 h1 h2 h3 h4 h5 h6 h7 h8 h9 R hR => hR 37 o e f j b μ μ1 μ2 μ3 μ4 μ5 μ6 μ7 μ8 h0 h1 h2 h3 (h4 R hR) h5 h6 (h7 R hR) h8 h9
theorem ei_mbody {N : Nat} {W : WD} {T : mS} : cl_mbody N W T (EMR N W T) := fun o e f j b w μ μ1 μ2 μ22 μ3 μ4 μ5 μ6 μ7 μ8 h0 h1 h2 h3 h4 h5 h6 h7 h8 h9 h10 h11 h12 h13 h14 R hR => hR 38 o e f j b w μ μ1 μ2 μ22 μ3 μ4 μ5 μ6 μ7 μ8 h0 h1 h2 h3 h4 h5 h6 h7 h8 (h9 R hR) h10 h11 (h12 R hR) h13 h14
theorem ei_s0 {N : Nat} {W : WD} {T : mS} : cl_s0 (EMR N W T) := fun o e μ μ' h0 R hR => hR 39 o e μ μ' h0
theorem ei_s1 {N : Nat} {W : WD} {T : mS} : cl_s1 T (EMR N W T) := fun o e s μ μ1 μ2 h0 h1 h2 R hR => hR 40 o e s μ μ1 μ2 h0 (h1 R hR) (h2 R hR)
theorem ei_none {N : Nat} {W : WD} {T : mS} : cl_none T (EMR N W T) := fun o e s μ μ' h0 h1 R hR => hR 41 o e s μ μ' h0 h1
theorem ei_label {N : Nat} {W : WD} {T : mS} : cl_label N W T (EMR N W T) := fun o e s x μ μ' h0 h1 h2 R hR => hR 42 o e s x μ μ' h0 h1 h2
theorem ei_state {N : Nat} {W : WD} {T : mS} : cl_state N T (EMR N W T) := fun o e s μ μ1 μ2 h0 h1 h2 h3 R hR => hR 43 o e s μ μ1 μ2 h0 h1 h2 (h3 R hR)
theorem ei_break {N : Nat} {W : WD} {T : mS} : cl_break N T (EMR N W T) := fun o e s μ μ' h0 h1 R hR => hR 44 o e s μ μ' h0 h1
theorem ei_goto {N : Nat} {W : WD} {T : mS} : cl_goto N W T (EMR N W T) := fun o e s x μ μ1 μ2 h0 h1 h2 h3 R hR => hR 45 o e s x μ μ1 μ2 h0 h1 h2 h3
theorem ei_do {N : Nat} {W : WD} {T : mS} : cl_do N T (EMR N W T) := fun o e s μ μ1 μ2 μ3 h0 h1 h2 h3 R hR => hR 46 o e s μ μ1 μ2 μ3 h0 h1 (h2 R hR) h3
theorem ei_while {N : Nat} {W : WD} {T : mS} : cl_while N T (EMR N W T) := fun o e s i μ μ1 μ2 μ3 μ4 μ5 μ6 μ7 h0 h1 h2 h3 h4 h5 h6 h7 R hR => hR 47 o e s i μ μ1 μ2 μ3 μ4 μ5 μ6 μ7 h0 (h1 R hR) h2 h3 h4 (h5 R hR) h6 h7
theorem ei_repeat {N : Nat} {W : WD} {T : mS} : cl_repeat N T (EMR N W T) := fun o e s μ μ1 μ2 μ3 μ4 μ5 μ6 h0 h1 h2 h3 h4 h5 h6 R hR => hR 48 o e s μ μ1 μ2 μ3 μ4 μ5 μ6 h0 h1 (h2 R hR) h3 (h4 R hR) h5 h6
theorem ei_if {N : Nat} {W : WD} {T : mS} : cl_if T (EMR N W T) := fun o e s μ μ' h0 h1 R hR => hR 49 o e s μ μ' h0 (h1 R hR)
theorem ei_br0 {N : Nat} {W : WD} {T : mS} : cl_br0 N T (EMR N W T) := fun o e n i j μ μ1 μ2 μ3 h0 h1 h2 h3 h4 R hR => hR 50 o e n i j μ μ1 μ2 μ3 h0 h1 (brB_mono hR h2) h3 h4
theorem ei_br1 {N : Nat} {W : WD} {T : mS} : cl_br1 N T (EMR N W T) := fun o e n i j k μ μ1 μ2 μ3 μ4 h0 h1 h2 h3 h4 h5 h6 R hR => hR 51 o e n i j k μ μ1 μ2 μ3 μ4 h0 h1 h2 (brB_mono hR h3) h4 h5 (h6 R hR)
theorem ei_br2 {N : Nat} {W : WD} {T : mS} : cl_br2 N T (EMR N W T) := fun o e n i j k μ μ1 μ2 μ3 μ4 μ5 μ6 μ7 h0 h1 h2 h3 h4 h5 h6 h7 h8 h9 R hR => hR 52 o e n i j k μ μ1 μ2 μ3 μ4 μ5 μ6 μ7 h0 h1 h2 (brB_mono hR h3) h4 h5 h6 (h7 R hR) h8 h9
theorem ei_steps {N : Nat} {W : WD} {T : mS} : cl_steps N W T (EMR N W T) := fun o e s x i a b μ μ1 μ2 μ3 μ4 μ5 μ6 μ7 μ8 μ9 μa h0 h1 h2 h3 h4 h5 h6 h7 h8 h9 h10 h11 h12 h13 h14 h15 h16 R hR => hR 53 o e s x i a b μ μ1 μ2 μ3 μ4 μ5 μ6 μ7 μ8 μ9 μa h0 h1 h2 h3 h4 h5 h6 (h7 R hR) h8 (h9 R hR) h10 (h11.elim .inl (fun q => .inr ⟨q.1, q.2.elim (fun m q2 => ⟨m, q2.1 R hR, q2.2⟩)⟩)) h12 h13 (h14 R hR) h15 h16
theorem ei_each {N : Nat} {W : WD} {T : mS} : cl_each N T (EMR N W T) := fun o e s ws h a i μ μ1 μ2 μ3 μ4 μ5 μ6 μ7 μ8 μ9 h0 h1 h2 h3 h4 h5 h6 h7 h8 h9 h10 h11 R hR => hR 54 o e s ws h a i μ μ1 μ2 μ3 μ4 μ5 μ6 μ7 μ8 μ9 h0 h1 h2 (h3 R hR) h4 h5 h6 h7 (h8 R hR) (h9 R hR) h10 h11
theorem ei_fun {N : Nat} {W : WD} {T : mS} : cl_fun N T (EMR N W T) := fun o e s x μ μ1 μ2 μ3 h0 h1 h2 h3 h4 h5 R hR => hR 55 o e s x μ μ1 μ2 μ3 h0 h1 (h2 R hR) h3 (h4 R hR) h5
theorem ei_lfun {N : Nat} {W : WD} {T : mS} : cl_lfun N W T (EMR N W T) := fun o e s x μ μ1 μ2 μ3 μ4 h0 h1 h2 h3 h4 h5 h6 h7 h8 R hR => hR 56 o e s x μ μ1 μ2 μ3 μ4 h0 h1 h2 h3 h4 h5 h6 (h7 R hR) h8
theorem ei_loc0 {N : Nat} {W : WD} {T : mS} : cl_loc0 N T (EMR N W T) := fun o e s ws μ μ1 μ2 μ3 h0 h1 h2 h3 h4 h5 h6 R hR => hR 57 o e s ws μ μ1 μ2 μ3 h0 h1 h2 h3 (h4 R hR) h5 (h6 R hR)
theorem ei_loc1 {N : Nat} {W : WD} {T : mS} : cl_loc1 N T (EMR N W T) := fun o e s ws h μ μ1 μ2 μ3 μ4 μ5 h0 h1 h2 h3 h4 h5 h6 h7 h8 R hR => hR 58 o e s ws h μ μ1 μ2 μ3 μ4 μ5 h0 h1 h2 h3 (h4 R hR) (h5 R hR) h6 h7 (h8 R hR)
theorem ei_ret0 {N : Nat} {W : WD} {T : mS} : cl_ret0 N T (EMR N W T) := fun o e s μ μ1 h0 h1 h2 R hR => hR 59 o e s μ μ1 h0 h1 h2
theorem ei_retl {N : Nat} {W : WD} {T : mS} : cl_retl N T (EMR N W T) := fun o e s μ μ1 μ2 h0 h1 h2 h3 h4 R hR => hR 60 o e s μ μ1 μ2 h0 h1 (h2 R hR) h3 h4
theorem ei_reta {N : Nat} {W : WD} {T : mS} : cl_reta N T (EMR N W T) := fun o e s h μ μ1 μ2 h0 h1 h2 h3 h4 h5 R hR => hR 61 o e s h μ μ1 μ2 h0 h1 (h2 R hR) h3 h4 h5
theorem ei_ret {N : Nat} {W : WD} {T : mS} : cl_ret N T (EMR N W T) := fun o e s h μ μ1 μ2 h0 h1 h2 h3 h4 R hR => hR 62 o e s h μ μ1 μ2 h0 h1 (h2 R hR) h3 h4
theorem ei_scall {N : Nat} {W : WD} {T : mS} : cl_scall N T (EMR N W T) := fun o e s μ μ1 μ2 h0 h1 h2 h3 R hR => hR 63 o e s μ μ1 μ2 h0 (h1 R hR) h2 h3
theorem ei_t0 {N : Nat} {W : WD} {T : mS} : cl_t0 T (EMR N W T) := fun o e v μ μ1 h0 h1 h2 h3 h4 R hR => hR 64 o e v μ μ1 h0 h1 h2 (h3 R hR) h4
theorem ei_t1 {N : Nat} {W : WD} {T : mS} : cl_t1 T (EMR N W T) := fun o e v xs μ μ1 μ2 h0 h1 h2 h3 h4 h5 R hR => hR 65 o e v xs μ μ1 μ2 h0 h1 h2 (h3 R hR) h4 (h5 R hR)
theorem ei_set1 {N : Nat} {W : WD} {T : mS} : cl_set1 N T (EMR N W T) := fun o e s h xs μ μ1 μ2 μ3 μ4 h0 h1 h2 h3 h4 h5 R hR => hR 66 o e s h xs μ μ1 μ2 μ3 μ4 h0 h1 (h2 R hR) (h3 R hR) h4 h5
theorem ei_set {N : Nat} {W : WD} {T : mS} : cl_set N T (EMR N W T) := fun o e s h vs xs μ μ1 μ2 μ3 μ4 h0 h1 h2 h3 h4 h5 h6 R hR => hR 67 o e s h vs xs μ μ1 μ2 μ3 μ4 h0 h1 h2 (h3 R hR) (h4 R hR) h5 h6
theorem ei_sl {N : Nat} {W : WD} {T : mS} : cl_sl (EMR N W T) := fun g o e n xs μ ν ν' μ' h0 h1 h2 R hR => hR 68 g o e n xs μ ν ν' μ' h0 (h1 R hR) h2
