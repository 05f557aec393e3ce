/-! LAYER 2: messages on both sides -/
theorem bd_id {α : Type} {x : Option α} : bd x (fun z => some z) = x := by cases x <;> rfl
theorem BC_166 {S : SR} {w : WD} {xf : Int32 → List Int32} {σ μ : mS} : ∀ {e : Int32 × Int32} {rest : PL2}, BC S w xf σ μ e rest → ∀ p, p ∈ e :: rest → p = (0, 120) ∨ sI μ 166 p.2 = 0
  | (c, d), [], h, p, hp => by
    obtain ⟨h1, h2, _⟩ := h
    rcases List.mem_cons.mp hp with q | q
    · left; rw [q, h1, h2]
    · simp at q
  | (c, d), e :: rest, h, p, hp => by
    obtain ⟨_, h2, _, _, _, _, _, _, _, h10⟩ := h
    rcases List.mem_cons.mp hp with q | q
    · right; rw [q]; exact h2.2.2.1
    · exact BC_166 h10 p q
theorem ME_calls {S : SR} {K : Int32 → Int32 → Int32 → Prop} {q : Int} {w : WD} {xf : Int32 → List Int32} {c d : Int32} {rest : PL2} {σ μ : mS} (H : ME S K q w xf c d rest σ μ) : sF μ 154 ≤ sF μ 155 ∧ sF μ 154 ≤ 200 ∧ 0 ≤ kSum w μ := by
  obtain ⟨⟨⟨W, _⟩, _⟩, _, _, _, h5, h6, _, _, ⟨a1, a2, a3, a4, a5⟩, _⟩ := H
  have k0 : ∀ (l : PL2), (∀ p, p ∈ l → p ∈ wC w) → 0 ≤ (l.map (fun p => (sI μ 166 p.2).toInt)).sum := by
    intro l
    induction l with
    | nil => intro _; simp
    | cons p l ih =>
      intro hl
      have ih' := ih (fun r hr => hl r (List.mem_cons_of_mem _ hr))
      have hp := hl p List.mem_cons_self
      obtain ⟨pc, pd⟩ := p
      simp only [List.map_cons, List.sum_cons]
      have nn : 0 ≤ (sI μ 166 pd).toInt := by
        have z : (0 : Int32).toInt = 0 := rfl
        rcases (h5.1 pc pd hp).2.2.2.2 with m | m
        · rcases BC_166 h6 _ m with r | r
          · have w6 := W.2.2.2.2.2 pc pd hp
            obtain ⟨r1, r2⟩ := Prod.mk.inj r
            lia
          · have r' : sI μ 166 pd = 0 := r
            rw [r', z]; omega
        · rcases m with m | m | m
          · rw [m.2.2.2.1, z]; omega
          · rw [m.2.2.2.2.2.1, z]; omega
          · have := m.2.2.2.2.2.1
            rw [tI_le, z] at this; exact this
      omega
  have ks := k0 (wC w) (fun _ h => h)
  have ks' : 0 ≤ kSum w μ := ks
  refine ⟨by rw [tI_le]; omega, ?_, ks'⟩
  rw [a1] at a3
  rw [tI_le] at a3 ⊢
  omega
/-- fields that a message changes -/
def gX (k : Nat) : Bool := sK k || [403, 404, 405, 407, 520, 521, 522].contains k
def gM (k : Nat) : Bool := sN k || bK k
theorem gX_f {k : Nat} (h : kX k ∨ k = 396) : gX k = false := by
  simp only [kX] at h
  simp only [gX, List.contains_cons, List.contains_nil, Bool.or_eq_false_iff, beq_eq_false_iff_ne]
  refine ⟨sK_f (by omega), ?_⟩
  repeat' (first | exact trivial | omega | apply And.intro)
theorem gM_f {k : Nat} (h : 18 ≤ k) : gM k = false := by
  simp only [gM, sN, bK, List.contains_cons, List.contains_nil, Bool.or_eq_false_iff, beq_eq_false_iff_ne]
  repeat' (first | exact trivial | omega | apply And.intro)
theorem gM_k {k : Nat} (h : kM k ∨ k = 180) : gM k = false := gM_f (by simp only [kM] at h; omega)
/-- fields that do not count -/
def sX (k : Nat) : Bool := [403, 404, 405, 407, 520, 521, 522].contains k
theorem sX_g {σ τ : mS} (h : m_fr sX σ τ) : m_fr gX σ τ := mf_mono h (fun k hk => by simp only [gX, Bool.or_eq_false_iff] at hk; exact hk.2)
theorem bK_g {σ τ : mS} (h : m_fr bK σ τ) : m_fr gM σ τ := mf_mono h (fun k hk => by simp only [gM, Bool.or_eq_false_iff] at hk; exact hk.2)
theorem sK_g {σ τ : mS} (h : m_fr sK σ τ) : m_fr gX σ τ := mf_mono h (fun k hk => by simp only [gX, Bool.or_eq_false_iff] at hk; exact hk.1)
theorem sN_g {σ τ : mS} (h : m_fr sN σ τ) : m_fr gM σ τ := mf_mono h (fun k hk => by simp only [gM, Bool.or_eq_false_iff] at hk; exact hk.1)
theorem sX_f {k : Nat} (h : k < 403 ∨ 522 < k ∨ k = 518 ∨ k = 519) : sX k = false := by
  simp only [sX, List.contains_cons, List.contains_nil, Bool.or_eq_false_iff, beq_eq_false_iff_ne]
  repeat' (first | exact trivial | omega | apply And.intro)
theorem xw_sX {v p n : Nat} {σ τ : mS} (h : xw v p n σ τ) (hv : v = 407 ∨ v = 520 ∨ v = 521 ∨ v = 522) : m_fr sX σ τ := mf_mono h.1 (fun k hk => by
  simp only [sX, List.contains_cons, List.contains_nil, Bool.or_eq_false_iff, beq_eq_false_iff_ne] at hk
  simp only [beq_eq_false_iff_ne]
  omega)
theorem cds_sX {w : WD} {σ τ : mS} (h : m_fr sX σ τ) : cds w σ τ := ⟨fun _ => mf_I h (sX_f (.inl (by decide))), fun _ => mf_I h (sX_f (.inl (by decide))), fun _ _ _ => mf_I h (sX_f (.inl (by decide)))⟩
theorem xL_fr {P : Nat → Bool} {σ τ : mS} {a : Int32} (fr : m_fr P σ τ) (hp : ∀ k, 128 ≤ k → k ≤ 132 → P k = false) : xL τ a = xL σ a := by
  have e : x_sz τ a = x_sz σ a := mf_I fr (hp 129 (by omega) (by omega))
  rw [xL, xL, e]
  refine bL_congr (fun k _ _ => ?_)
  simp only [x_by]
  rw [mf_I fr (hp 131 (by omega) (by omega)), mf_I fr (hp 132 (by omega) (by omega)), mf_I fr (hp 128 (by omega) (by omega))]
theorem ZS_fr {P : Nat → Bool} {w : WD} {σ τ : mS} (Z : ZS w σ) (fr : m_fr P σ τ) (hp : P 129 = false) : ZS w τ := fun a b h => by
  have e : x_sz τ a = x_sz σ a := mf_I fr hp
  rw [e]; exact Z a b h
theorem ME_sc {S : SR} {K : Int32 → Int32 → Int32 → Prop} {q : Int} {w : WD} {xf : Int32 → List Int32} {c d : Int32} {rest : PL2} {σ μ τ τm : mS} (H : ME S K q w xf c d rest σ μ) (fr : m_fr sX σ τ) (frm : m_fr bK μ τm) : ME S K q w xf c d rest τ τm := by
  have R := RH_fr H.1.1 fr frm (fun k a b => sX_f (.inl (by omega))) (fun k a b _ c16 c17 _ _ _ => bK_f ⟨c16, c17⟩)
  refine ME_fr H R (ZS_fr H.2.1 fr (sX_f (.inl (by decide)))) (HO_fr H.2.2.1 wle_rfl fr frm (fun k hk => sX_f (by omega)) (fun k a b => bK_f ⟨by omega, by omega⟩) (fun a b _ => xL_fr fr (fun k a b => sX_f (.inl (by omega)))) (fun k _ => by rw [frm.2.2.1 44 (bK_f ⟨by omega, by omega⟩)])) wle_rfl rfl (cds_sX fr) fr frm (fun k hk => ?_) (fun k hk => bK_f ?_)
  · simp only [kX] at hk
    exact sX_f (.inl (by omega))
  · simp only [kM] at hk
    omega
/-- a string is made: what is known then -/
theorem ME_make {S : SR} {K : Int32 → Int32 → Int32 → Prop} {q : Int} {w : WD} {xf : Int32 → List Int32} {c d a b n : Int32} {rest : PL2} {σ μ τ τm : mS} (H : ME S K q w xf c d rest σ μ) (R : RH K (q + fQ μ) (wAddS w a b) τ τm) (fr : m_fr sK σ τ) (frm : m_fr sN μ τm) (hz : x_sz τ a = n) (n1 : n ≤ 4000) (hs : ∀ e f, (e, f) ∈ wS w ∨ (e, f) ∈ wX w → x_sm σ τ e ∧ m_sm μ τm f) : ME S K q (wAddS w a b) xf c d rest τ τm := by
  have sk : ∀ k, k < 128 ∨ 192 ≤ k → sK k = false := fun k hk => by
    exact sK_f (by omega)
  have sn : ∀ k, 16 ≤ k → sN k = false := fun k hk => by
    simp only [sN, List.contains_cons, List.contains_nil, Bool.or_eq_false_iff, beq_eq_false_iff_ne]
    repeat' (first | exact trivial | omega | apply And.intro)
  refine ME_fr H R (fun e f h => ?_) (HO_fr H.2.2.1 wAddS_le fr frm (fun k hk => sk k (by omega)) (fun k x y => sn k (by omega)) (fun e f h => sm_L (hs e f (.inr h)).1) (fun k _ => by rw [frm.2.2.1 44 (sn _ (by omega))])) wAddS_le rfl ⟨fun m => mf_I fr (sk _ (by omega)), fun m => mf_I fr (sk _ (by omega)), fun _ _ _ => mf_I fr (sk _ (by omega))⟩ fr frm (fun k hk => ?_) (fun k hk => sn k ?_)
  · have old : (e, f) ∈ wS w ∨ (e, f) ∈ wX w → x_sz τ e ≤ 4000 := fun h => by
      have q : x_sz τ e = x_sz σ e := (hs e f h).1.2.1
      rw [q]; exact H.2.1 e f h
    rcases h with h | h
    · rcases List.mem_append.mp h with r | r
      · exact old (.inl r)
      · have : (e, f) = (a, b) := by simpa using r
        obtain ⟨rfl, rfl⟩ := Prod.mk.inj this
        rw [hz]; exact n1
    · exact old (.inr h)
  · simp only [kX] at hk
    exact sk k (by omega)
  · simp only [kM] at hk
    omega
/-- what is at the beginning of a message -/
def lnP (ln : Int32) (l : List Int32) : Prop := (ln = 0 ∧ l = []) ∨ (ln ≠ 0 ∧ ∃ t, numT (Int32.toInt64 ln) t ∧ l = t ++ [58, 32])
theorem lnP_ex (ln : Int32) : ∃ l, lnP ln l := by
  by_cases c : ln = 0
  · exact ⟨[], .inl ⟨c, rfl⟩⟩
  · obtain ⟨t, ht⟩ := numT_ex (Int32.toInt64 ln)
    exact ⟨_, .inr ⟨c, t, ht, rfl⟩⟩
theorem lnP_len {ln : Int32} {l : List Int32} (h : lnP ln l) : l.length ≤ 22 := by
  rcases h with ⟨_, rfl⟩ | ⟨_, t, ht, rfl⟩
  · simp
  · have := numT_len ht
    rw [List.length_append]
    simp
    omega
/-- a byte behind -/
theorem wr_1 {σ : mS} {v p L : Nat} {l : List Int32} {b : Int32} (hv : vB v L) (hl : hasL (σ.2.2.1 v) p l) (hp : p + l.length < L) : inB (Int32.ofNat (p + l.length)) (x_ln v) = true ∧ hasL ((md_ai σ v (p + l.length) (vp_nar .byte b)).2.2.1 v) p (l ++ [b &&& 255]) ∧ xw v (p + l.length) 1 σ (md_ai σ v (p + l.length) (vp_nar .byte b)) := by
  have L2 := hv.2.2
  have x1 : xw v (p + l.length) 1 σ (md_ai σ v (p + l.length) (vp_nar .byte b)) := xw_ai rfl
  refine ⟨tI_in (by rw [tI_lit (by omega)]; omega) (by rw [tI_lit (by omega), hv.2.1]; omega), hasL_app.mpr ⟨hasL_xw hl x1 (by omega), hasL_one ?_⟩, x1⟩
  rw [ai_I, if_pos rfl, upd_at, if_pos rfl, b_mask]
theorem linePrefix_x {N : Nat} (hN : BIG ≤ N) {σ : mS} {ln : Int32} {l : List Int32} (h : lnP ln l) : ∃ τ, xx6_linePrefix N σ ln 0 = some (Int32.ofNat l.length, τ) ∧ hasL (τ.2.2.1 407) 0 l ∧ xw 407 0 l.length σ τ := by
  rcases h with ⟨h1, rfl⟩ | ⟨h1, t, ht, rfl⟩
  · exact ⟨σ, by rw [xx6_linePrefix, if_pos h1]; rfl, hasL_nil, xw_rfl⟩
  · have tl := numT_len ht
    obtain ⟨τ, e1, e2, e3⟩ := digits_L hN (v := 407) (p := 0) (σ := σ) ht vB_407 (by omega)
    rw [Nat.zero_add] at e1
    have e1' : xx6_digits N σ (Int32.toInt64 ln) 407 0 = some (Int32.ofNat t.length, τ) := e1
    obtain ⟨f1, f2, f3⟩ := wr_1 (b := 58) vB_407 e2 (by omega)
    rw [Nat.zero_add] at f1 f2 f3
    obtain ⟨g1, g2, g3⟩ := wr_1 (b := 32) vB_407 f2 (by rw [List.length_append]; simp; omega)
    rw [Nat.zero_add, List.length_append, List.length_singleton] at g1 g2 g3
    have x407 : x_ln 407 = 8300 := vB_407.2.1
    rw [x407] at f1 g1
    refine ⟨md_ai (md_ai τ 407 t.length (vp_nar .byte 58)) 407 (t.length + 1) (vp_nar .byte 32), ?_, ?_, ?_⟩
    · rw [xx6_linePrefix, if_neg h1, e1']
      simp only [bd, lt, f1, gd, oN_s, g1, oN_cl (show t.length < 2147483648 by omega), oN_cl (show t.length + 1 < 2147483648 by omega)]
      rw [show Int32.ofNat t.length + 2 = Int32.ofNat (t.length + 2) from oN_add (a := t.length) (b := 2), List.length_append]
      rfl
    · rw [List.append_assoc] at g2
      exact g2
    · have h1 := xw_tr e3 (by rw [Nat.zero_add]; exact f3)
      have h2 := xw_tr h1 (by rw [Nat.zero_add]; exact g3)
      rw [List.length_append]
      exact h2
theorem beginMessage_m {N : Nat} (hN : BIG ≤ N) {μ : mS} {ln : Int32} {l : List Int32} (h : lnP ln l) (h0 : 0 ≤ ln) (hl : mm_lineAtHand N (md_pi μ 17 0) = some (ln, md_pi μ 17 0)) : ∃ τ, mm_beginMessage N μ = some τ ∧ bufL τ l ∧ m_fr bK μ τ := by
  have f0 : m_fr bK μ (md_pi μ 17 0) := mf_pi mf_rfl rfl
  rcases h with ⟨h1, rfl⟩ | ⟨h1, t, ht, rfl⟩
  · refine ⟨md_pi μ 17 0, ?_, bufL_0, f0⟩
    simp only [mm_beginMessage, lt, hl, bd]
    rw [if_pos (by rw [h1]; decide)]
    rfl
  · have tl := numT_len ht
    obtain ⟨τ1, e1, e2, e3⟩ := putNumber_m hN ht (bufL_0 (μ := μ)) (by simp)
    obtain ⟨τ2, f1, f2, f3⟩ := put_m (N := N) (b := 58) e2 (by simp; omega)
    obtain ⟨τ3, g1, g2, g3⟩ := put_m (N := N) (b := 32) f2 (by simp; omega)
    refine ⟨τ3, ?_, ?_, mf_tr f0 (mf_tr e3 (mf_tr f3 g3))⟩
    · simp only [mm_beginMessage, lt, hl, bd]
      rw [if_neg (by lia)]
      simp only [e1, bd, f1, g1]
      rfl
    · rw [List.nil_append, List.append_assoc] at g2
      exact g2
/-- an error is told: its value on both sides -/
def TH (w : WD) (τ : mS) (ty : Int32) (v : Int64) : Prop := VV w (sF τ 403) (sG τ 404) ty v
theorem LKg {w : WD} {σ μ τ τm : mS} {k0 n : Int32} {fl : List Int32} (h : LK σ (mff μ) k0 fl n) (fr : m_fr gX σ τ) (frm : m_fr gM μ τm) : LK τ (mff τm) k0 fl n ∧ lnH τ fl = lnH σ fl := by
  have hp : ∀ k, kX k → gX k = false := fun k hk => gX_f (.inl hk)
  have hq : ∀ k, kM k → gM k = false := fun k hk => gM_k (.inl hk)
  have h257 : ∀ m, sI τ 257 m = sI σ 257 m := fun m => mf_I fr (by decide)
  exact ⟨LK_fr fr frm hp hq h257 h, lnH_fr fr hp h257⟩
theorem g162 {μ τm : mS} (frm : m_fr gM μ τm) {m : Int32} : sI τm 162 m = sI μ 162 m := mf_I frm (gM_f (by decide))
theorem g154 {μ τm : mS} (frm : m_fr gM μ τm) : sF τm 154 = sF μ 154 := mf_F frm (gM_f (by decide))
/-- a message that is put together becomes an error -/
theorem msg_2 {N : Nat} (hN : BIG ≤ N) {S : SR} {K : Int32 → Int32 → Int32 → Prop} {q : Int} {w : WD} {xf : Int32 → List Int32} {c d : Int32} {rest : PL2} {σ μ : mS} (H : ME S K q w xf c d rest σ μ) (hl : LK σ (mff μ) (sI μ 162 d) (xf c) (sF μ 154)) {v : Nat} (hv : v = 407 ∨ v = 521) {L : List Int32} (hL : hasL (σ.2.2.1 v) 0 L) (hb : bufL μ L) (len : L.length ≤ 4000) (dd : Nat) :
    (bx (xx2_make N σ v 0 (Int32.ofNat L.length)) (fun z4 => bd (xx6_raise N z4.2 4 (Int32.toInt64 z4.1)) (fun z5 => some (Except.ok (z5.1, z5.2)))) = some (.error (1101, σ)) ∧ mb_raiseMessage N (rc_finish N dd) μ = mm_breakOff N μ 3)
    ∨ (∃ τ τm w' v', bx (xx2_make N σ v 0 (Int32.ofNat L.length)) (fun z4 => bd (xx6_raise N z4.2 4 (Int32.toInt64 z4.1)) (fun z5 => some (Except.ok (z5.1, z5.2)))) = some (.ok (1107, τ)) ∧ mb_raiseMessage N (rc_finish N dd) μ = (rc_finish N dd).2.2.1 τm 3 v' ∧ TH w' τ 3 v' ∧ sF τ 405 = lnH σ (xf c) ∧ ME S K q w' xf c d rest τ τm ∧ wle w w' ∧ wC w' = wC w ∧ m_fr gX σ τ ∧ m_fr gM μ τm) := by
  have vb : ∃ M, vB v M ∧ 4000 ≤ M := by
    rcases hv with rfl | rfl
    · exact ⟨_, vB_407, by decide⟩
    · exact ⟨_, vB_521, by decide⟩
  obtain ⟨M, vb, hM⟩ := vb
  have hne : v ≠ 128 ∧ v ≠ 129 ∧ v ≠ 131 ∧ v ≠ 136 := by omega
  have M1 := vb.2.2
  have n4 : Int32.ofNat L.length ≤ 4000 := by
    rw [show (4000 : Int32) = Int32.ofNat 4000 from rfl, oN_le (by omega) (by omega)]; exact len
  have n0 := oN_nn (show L.length < 2147483648 by omega)
  have hbb : ∀ k, 0 ≤ k → k < Int32.ofNat L.length → sI σ v (0 + k) &&& 255 = sI μ 16 k &&& 255 := fun k k0 k1 => by
    have e0 : (0 : Int32) + k = k := by lia
    have kl : k.toNatClampNeg < L.length := by
      rw [tI_lt, tI_lit (by omega)] at k1
      rw [tI_le] at k0
      have z : (0 : Int32).toInt = 0 := rfl
      rw [tI_cl]; omega
    rw [e0]
    have a1 := hL k.toNatClampNeg kl
    have a2 := hb.2 k.toNatClampNeg (by rw [List.length_take]; omega)
    rw [List.take_of_length_le (by omega)] at a2
    rw [Nat.zero_add] at a1 a2
    simp only [sI]
    rw [a1, a2]
  rcases make_h hN H.1.1 (vB_ba vb) hne (show (0 : Int32) ≤ 0 by decide) n0 (by lia) (by lia) (by
    have : (0 : Int32) + Int32.ofNat L.length = Int32.ofNat L.length := by lia
    rw [this, oN_le (by omega) (by omega)]; omega) hb.1 hbb with ⟨r1, r2⟩ | ⟨a, b, τ, τm, r1, r2, r3, a0, b0, r4, r5, r6, r7, r8⟩
  · left
    refine ⟨by rw [r1]; rfl, ?_⟩
    rw [mb_raiseMessage, r2]
    cases mm_breakOff N μ 3 with
    | none => rfl
    | some z => rfl
  · right
    have m1 := ME_make H r3 r4 r5 r7 n4 r8
    have f1 : m_fr sX τ (md_pl (md_pi τ 403 4) 404 (Int32.toInt64 a)) := mf_pl (mf_pi mf_rfl rfl) rfl
    have m2 := ME_sc m1 f1 (mf_rfl (σ := τm))
    obtain ⟨l1, l2⟩ := LKg (w := w) hl (mf_tr (sK_g r4) (sX_g f1)) (sN_g r5)
    have gm := sN_g r5
    have la := lah_2 hN m2 (by rw [g162 gm, g154 gm]; exact l1) (by rw [g154 gm]; have := (ME_calls H).2.1; lia)
    rw [l2] at la
    have f2 : m_fr sX (md_pl (md_pi τ 403 4) 404 (Int32.toInt64 a)) (md_pi (md_pl (md_pi τ 403 4) 404 (Int32.toInt64 a)) 405 (lnH σ (xf c))) := mf_pi mf_rfl rfl
    have m3 := ME_sc m2 f2 (mf_rfl (σ := τm))
    refine ⟨md_pi (md_pl (md_pi τ 403 4) 404 (Int32.toInt64 a)) 405 (lnH σ (xf c)), τm, wAddS w a b, Int32.toInt64 b, ?_, ?_, ?_, ?_, m3, wAddS_le, rfl, mf_tr (sK_g r4) (sX_g (mf_tr f1 f2)), gm⟩
    · rw [r1]
      simp only [bx, xx6_raise, lt, la.1, bd]
    · rw [mb_raiseMessage, r2]
      simp only [bd]
      rw [if_neg (by lia)]
      simp only [mm_raiseMessage_16, bd_id]
      cases (rc_finish N dd).2.2.1 τm 3 (Int32.toInt64 b) <;> rfl
    · simp only [TH, sF_pi, sF_pl, sF_ai, sF_al, sG_pi, sG_pl, sG_ai, sG_al, sI_pi, sI_pl, sI_al, sI_ai1, sI_ai2, sJ_pi, sJ_pl, sJ_ai, sJ_al1, sJ_al2, Nat.reduceEqDiff, if_true, if_false, ne_eq, not_false_eq_true, ite_true, ite_false]
      exact r6
    · simp only [sF_pi, sF_pl, sF_ai, sF_al, sG_pi, sG_pl, sG_ai, sG_al, sI_pi, sI_pl, sI_al, sI_ai1, sI_ai2, sJ_pi, sJ_pl, sJ_ai, sJ_al1, sJ_al2, Nat.reduceEqDiff, if_true, if_false, ne_eq, not_false_eq_true, ite_true, ite_false]
/-- fault(message) -/
theorem fault_2 {N : Nat} (hN : BIG ≤ N) {S : SR} {K : Int32 → Int32 → Int32 → Prop} {q : Int} {w : WD} {xf : Int32 → List Int32} {c d : Int32} {rest : PL2} {σ μ : mS} (H : ME S K q w xf c d rest σ μ) (hl : LK σ (mff μ) (sI μ 162 d) (xf c) (sF μ 154)) {t tm : Nat} (ht : t < 141) (htm : tm < 76) (he : xtx t = mtx tm) (hn : (mtx tm).length ≤ 100) (dd : Nat) :
    (∃ τ τm, xx6_fault N σ (3000 + t) = some (.error (1101, τ)) ∧ (rc_finish N (dd + 2)).1 μ tm = mm_breakOff N τm 3 ∧ ME S K q w xf c d rest τ τm ∧ m_fr gX σ τ ∧ m_fr gM μ τm)
    ∨ (∃ τ τm w' v', xx6_fault N σ (3000 + t) = some (.ok (1107, τ)) ∧ (rc_finish N (dd + 2)).1 μ tm = (rc_finish N dd).2.2.1 τm 3 v' ∧ TH w' τ 3 v' ∧ sF τ 405 = lnH σ (xf c) ∧ ME S K q w' xf c d rest τ τm ∧ wle w w' ∧ wC w' = wC w ∧ m_fr gX σ τ ∧ m_fr gM μ τm) := by
  have cl := (ME_calls H).2.1
  have la := lah_2 hN H hl (by lia)
  obtain ⟨l, hlP⟩ := lnP_ex (lnH σ (xf c))
  have ll := lnP_len hlP
  have f0 : m_fr bK μ (md_pi μ 17 0) := mf_pi mf_rfl rfl
  have H0 := ME_sc H (mf_rfl (σ := σ)) f0
  obtain ⟨k1, k2⟩ := LKg (w := w) hl (mf_rfl (σ := σ)) (bK_g f0)
  have la0 := lah_2 hN H0 (by rw [g162 (bK_g f0), g154 (bK_g f0)]; exact k1) (by rw [g154 (bK_g f0)]; lia)
  obtain ⟨μ1, b1, b2, b3⟩ := beginMessage_m hN hlP (lnH_nn hl) la0.2
  obtain ⟨μ2, c1, c2, c3⟩ := putText_m hN htm b2 (by omega)
  obtain ⟨σ1, x1, x2, x3⟩ := linePrefix_x hN (σ := σ) hlP
  have xl : (xtx t).length ≤ 100 := by rw [he]; exact hn
  obtain ⟨σ2, y1, y2, y3⟩ := ascii_L hN (p := l.length) (σ := σ1) ht vB_407 (by omega)
  have fx : m_fr sX σ σ2 := mf_tr (xw_sX x3 (.inl rfl)) (xw_sX y3 (.inl rfl))
  have fm : m_fr bK μ μ2 := mf_tr b3 c3
  have H2 := ME_sc H fx fm
  obtain ⟨j1, j2⟩ := LKg (w := w) hl (sX_g fx) (bK_g fm)
  have hL : hasL (σ2.2.2.1 407) 0 (l ++ mtx tm) := hasL_app.mpr ⟨hasL_xw x2 y3 (by omega), by rw [Nat.zero_add, ← he]; exact y2⟩
  have ex : xx6_fault N σ (3000 + t) = bx (xx2_make N σ2 407 0 (Int32.ofNat (l ++ mtx tm).length)) (fun z4 => bd (xx6_raise N z4.2 4 (Int32.toInt64 z4.1)) (fun z5 => some (Except.ok (z5.1, z5.2)))) := by
    rw [xx6_fault, la.1]
    simp only [bd]
    rw [x1]
    simp only [bd]
    rw [y1]
    simp only [bd]
    rw [List.length_append, ← he]
  have em : (rc_finish N (dd + 2)).1 μ tm = mb_raiseMessage N (rc_finish N dd) μ2 := by
    show mb_fault_2 N (rc_finish N (dd + 1)) μ tm = _
    rw [mb_fault_2, b1]
    simp only [bd]
    rw [c1]
    exact bd_id
  rw [ex, em]
  rcases msg_2 hN H2 (by rw [g162 (bK_g fm), g154 (bK_g fm)]; exact j1) (.inl rfl) hL c2 (by rw [List.length_append]; omega) dd with ⟨r1, r2⟩ | ⟨τ, τm, w', v', r1, r2, r3, r4, r5, r6, r7, r8, r9⟩
  · left
    exact ⟨σ2, μ2, r1, r2, H2, sX_g fx, bK_g fm⟩
  · right
    exact ⟨τ, τm, w', v', r1, r2, r3, by rw [r4, j2], r5, r6, r7, mf_tr (sX_g fx) r8, mf_tr (bK_g fm) r9⟩
