section T432_al
/-! charts: an alt or opt whole, all rows (X 81, 77 | Q 398) -/
section ALd
variable {b : Int} {M N M' N' M1 N1 M2 N2 : mm_} {a a' k f t x c w p i u v s l o m A W : Int}
/-- Q writes a block -/
def blQ (N : mm_) (A W o m : Int) : mm_ := up_ (up_ (up_ (up_ N 266 A o) 262 A m) 263 W A) 264 W 0
theorem q_403 [Inhabited fz_] (h : CB b M N a) (hA : N 6 172 = A) (hW : N 6 186 = W) (h6 : 0 ≤ A ∧ A < 6) (h3 : 0 ≤ W ∧ W < 3) (ho : (o = 1 ∧ m = 2 ∧ M 75 a = 47) ∨ (o = 0 ∧ m = 1 ∧ M 75 a ≠ 47)) {V : vv_} {Qr : qr_} {Qt : qt_} (hV : Cl_ wd0 (Tr_ wd0 pg0 4) V Qr Qt m_403) (hW' : Wk_ V) (g : V 73 [rr 6] [] (up_ (up_ N 266 A o) 262 A m)) : V 0 [rr 6] [] N := b_403_0 (Tr_mono _) hV hW' _ (by
  rw [if_neg (by omega), if_neg (by omega)]
  have e : ∀ x, (up_ N 266 A x) 266 A = x := fun x => up_at
  rcases ho with ⟨rfl, rfl, c⟩ | ⟨rfl, rfl, c⟩
  · refine Ex_le (d := 1) (by decide) (c_229t h (w := 47) (by decide) c) _ _ (ri_i ?_)
    rw [hA, e]
    refine ⟨⟨by omega, .inr rfl⟩, by omega, fun _ => ?_⟩
    rw [if_neg (by decide)]
    exact ⟨by omega, g⟩
  · refine Ex_le (d := 1) (by decide) (c_229f h (w := 47) (by decide) c) _ _ (ri_i ?_)
    rw [hA, e]
    refine ⟨⟨by omega, .inl rfl⟩, by omega, fun _ => ?_⟩
    rw [if_pos rfl]
    exact ⟨by omega, g⟩)
theorem KPc_bl [Inhabited fz_] (hA : M 0 78 = A) (hW : M 0 79 = W) (e1 : M1 0 78 = A + 1) (e2 : M1 0 79 = W + 1) (q1 : ∀ j, j ≠ W → N1 263 j = N 263 j ∧ N1 264 j = N 264 j) (q2 : ∀ j, j ≠ A → N1 266 j = N 266 j) (g : KPd M1 N1 M2 N2) : KPc M N M2 N2 := by
  refine ⟨⟨by have := g.1.1; omega, by rw [g.1.2]; (clear hA e1 q1 q2 g; lia)⟩, fun j j0 j1 => ?_, fun j j0 j1 => ?_⟩
  · have := g.2.1 j j0 (by (clear hA e1 q1 q2 g j0; omega))
    rw [this.1, this.2]; exact q1 j (by omega)
  · rw [g.2.2 j j0 (by omega)]; exact q2 j (by omega)
theorem j_81 [Inhabited fz_] {n : Nat} (hR : ∀ n' : Nat, n = n' + 1 → ROWS b n') (h : CR b M N a) (hS : SGP M N) (hw : M 0 79 = 3 - (n : Int)) (hk : M 75 a = 46 ∨ M 75 a = 47) : JOd (2 * n + 5) 81 [.inr (.inr 0)] b M N (fun M' N' => ∃ a', a < a' ∧ CR b M' N' a' ∧ KPc M N M' N') := by
  have ha := CB_a h.1
  have e := h.1.2.2.1.1
  obtain ⟨_, _, ⟨c1, c2, c3⟩, c4, c5, c6⟩ := h.2.1
  have i9 := (CB_k h.1).2.2
  have toQ : ∀ {N'}, Ex_ 5 403 [.inr (.inr 6)] N [] N' → QL N N' := fun g V Qr Qt hV hW z => q_bl h.1 hk hV hW (g _ _ (rv_i z))
  obtain ⟨o, o1, o2, xo⟩ := x_74 (k := 47) ha e
  by_cases r6 : M 0 78 = 6 ∨ M 0 79 = 3
  · refine .inr ⟨bdX M 2 (M 76 a), fun Qr Qt g => t_81 fun V hV hW => b_81_0 (Tr_mono _) hV hW _ (Ex_le (d := 1) (by (clear hR h hS hk ha e c1 c2 c3 c6 i9 toQ o1 o2 xo r6 g hV hW; lia)) xo _ _ (ri_i ?_)), XTd_bd XTd_rf, fun hb => ?_⟩
    · rw [e]
      by_cases z : M 0 78 = 6
      · rw [if_pos z]
        refine Ex_le (d := 1) (by omega) (x_75c ha) _ _ (rf_i ?_)
        rw [if_neg (by decide)]; exact g
      · rw [if_neg z, if_pos (r6.resolve_left z)]
        refine Ex_le (d := 1) (by omega) (x_75c ha) _ _ (rf_i ?_)
        rw [if_neg (by decide)]; exact g
    · have sp := sp_b (p := M 76 a) (f := 2) (CB_16 h.1 hb) (by decide)
      refine ⟨_, QL_E (toQ (N' := bf_ N 2 (M 76 a)) fun Qr Qt g => t_403 fun V hV hW => b_403_0 (Tr_mono _) hV hW _ ?_) (QEc_s sp), FQc_b (CB_16 h.1 hb) (by decide), QTd_bf QTd_rf⟩
      rw [(CB_k h.1).2.1]
      by_cases z : M 0 78 = 6
      · rw [if_pos (by omega)]
        exact ⟨i9, Ex_le (d := 1) (by decide) (c_231 h.1 hb) _ _ (rv_i g)⟩
      · rw [if_neg (by (clear hR h hS hw hk ha e c2 c3 c4 c5 c6 i9 toQ o1 o2 xo r6 hb sp g hV hW; lia)), if_pos (by (clear hR h hS hk ha e c1 c6 i9 toQ o1 o2 xo hb sp g hV hW; lia))]
        exact ⟨i9, Ex_le (d := 1) (by decide) (c_231 h.1 hb) _ _ (rv_i g)⟩
  have n6 : M 0 78 < 6 := by (clear hR h hS hk ha e c1 c6 i9 toQ o1 o2 xo; lia)
  have n3 : M 0 79 < 3 := by omega
  obtain ⟨n', rfl⟩ : ∃ n', n = n' + 1 := ⟨n - 1, by (clear hR h hS hk ha e c1 c2 c3 c6 i9 toQ o1 o2 xo r6 n6; lia)⟩
  have hR := hR n' rfl
  obtain ⟨m, hm⟩ : ∃ m : Int, (o = 1 ∧ m = 2 ∧ M 75 a = 47) ∨ (o = 0 ∧ m = 1 ∧ M 75 a ≠ 47) := by
    rcases o1 with z | z
    · exact ⟨1, .inr ⟨z, rfl, fun y => by have := o2.2 y; omega⟩⟩
    · exact ⟨2, .inl ⟨z, rfl, o2.1 z⟩⟩
  -- X's first step
  have kx : M 75 a = (if o = 0 then 46 else 47) := by
    rcases hm with ⟨z, _, y⟩ | ⟨z, _, y⟩
    · rw [if_neg (by omega)]; exact y
    · rw [if_pos z]; (clear h hS ha e c1 c4 i9 toQ o1 xo hR; lia)
  have px : ∀ (V : vv_) (Qr : qr_) (Qt : qt_), Cl_ wd0 (Tr_ wd0 pg0 (2 * (n' + 1) + 4)) V Qr Qt m_81 → Wk_ V → Tr_ wd0 pg0 (2 * (n' + 1) + 4) 73 [.inr (.inr 0), .inl (if o = 0 then 46 else 47)] M (rv_ fun M3 => V 49 [rr 0, ii o, none] [] M3) Qt → V 0 [rr 0, none, none] [] M := fun V Qr Qt hV hW g => b_81_0 (Tr_mono _) hV hW _ (Ex_le (d := 1) (by (clear h hS hk ha e c1 c2 c3 c4 i9 toQ o1 o2 xo r6 n6 hR hm kx hV hW g; lia)) xo _ _ (ri_i (by
    rw [if_neg (by omega), if_neg (by omega)]
    by_cases z : o = 0
    · rw [if_pos z]; rw [if_pos z] at g; exact g
    · rw [if_neg z]; rw [if_neg z] at g; exact g)))
  -- Q's writes
  have bl : ∀ r, r ∉ [262, 263, 264, 266] → blQ N (M 0 78) (M 0 79) o m r = N r := fun r hr => by
    unfold blQ
    rw [up_ne (by rintro rfl; exact hr (by decide)), up_ne (by rintro rfl; exact hr (by decide)), up_ne (by rintro rfl; exact hr (by decide)), up_ne (by rintro rfl; exact hr (by decide))]
  have b1 : ∀ i, i ≠ M 0 78 → blQ N (M 0 78) (M 0 79) o m 262 i = N 262 i ∧ blQ N (M 0 78) (M 0 79) o m 266 i = N 266 i := fun i hi => by
    unfold blQ
    rw [up_ne (by decide), up_ne (by decide), upo hi, up_ne (by decide), up_ne (by decide), up_ne (by decide), up_ne (by decide), upo hi]; exact ⟨rfl, rfl⟩
  have b2 : ∀ i, i ≠ M 0 79 → blQ N (M 0 78) (M 0 79) o m 263 i = N 263 i ∧ blQ N (M 0 78) (M 0 79) o m 264 i = N 264 i := fun i hi => by
    unfold blQ
    rw [up_ne (by decide), upo hi, up_ne (by decide), up_ne (by decide), upo hi, up_ne (by decide), up_ne (by decide), up_ne (by decide)]; exact ⟨rfl, rfl⟩
  have b3 : blQ N (M 0 78) (M 0 79) o m 262 (M 0 78) = m ∧ blQ N (M 0 78) (M 0 79) o m 266 (M 0 78) = o ∧ blQ N (M 0 78) (M 0 79) o m 263 (M 0 79) = M 0 78 ∧ blQ N (M 0 78) (M 0 79) o m 264 (M 0 79) = 0 := by
    unfold blQ
    rw [up_ne (r' := 262) (by decide), up_ne (r' := 262) (by decide), up_at, up_ne (r' := 266) (by decide), up_ne (r' := 266) (by decide), up_ne (r' := 266) (by decide), up_at, up_ne (r' := 263) (by decide), up_at, up_at]; exact ⟨rfl, rfl, rfl, rfl⟩
  have fqb : QTd N (blQ N (M 0 78) (M 0 79) o m) := QTd_r (QTd_r (QTd_r (QTd_r QTd_rf (by decide) (by decide)) (by decide) (by decide)) (by decide) (by decide)) (by decide) (by decide)
  have hB : CB b M (blQ N (M 0 78) (M 0 79) o m) a := CB_c h.1 (fun _ _ => rfl) (fun r hr => bl r (by
    simp only [List.mem_cons, List.not_mem_nil, or_false] at hr
    rcases hr with rfl | rfl | rfl <;> decide)) rfl (by rw [bl 6 (by decide)]) (by rw [bl 6 (by decide)]) (fun _ => by rw [bl 6 (by decide)])
  have pq : ∀ (V : vv_) (Qr : qr_) (Qt : qt_), Cl_ wd0 (Tr_ wd0 pg0 4) V Qr Qt m_403 → Wk_ V → Tr_ wd0 pg0 4 230 [.inr (.inr 6)] (blQ N (M 0 78) (M 0 79) o m) (rv_ fun M1 => Tr_ wd0 pg0 4 227 [.inr (.inr 6)] M1 (ri_ fun v1 M2 => if v1 = 0 then Qr [] (up_ (up_ M2 6 172 (w32 ((M2 6 172) + 1))) 6 186 (w32 ((M2 6 186) + 1))) else Qr [] M2) Qt) Qt → V 0 [rr 6] [] N := fun V Qr Qt hV hW g => q_403 h.1 c1 c4 (by (clear h hS hk ha e c1 c4 c5 c6 i9 toQ o1 o2 xo r6 n3 hw hR hm kx px bl b1 b2 fqb hB hV hW g; omega)) (by omega) hm hV hW (b_403_73 (Tr_mono _) hV hW _ (by
    have e6 : (up_ (up_ N 266 (M 0 78) o) 262 (M 0 78) m) 6 = N 6 := by rw [up_ne (by decide), up_ne (by decide)]
    have e7 : (up_ (up_ (up_ N 266 (M 0 78) o) 262 (M 0 78) m) 263 (M 0 79) (M 0 78)) 6 = N 6 := by rw [up_ne (by decide)]; exact e6
    rw [e6, c4, c1]
    exact ⟨by omega, by omega, g⟩))
  generalize blQ N (M 0 78) (M 0 79) o m = Nb at *
  by_cases a1 : a < 1200
  · have nk : M 75 a ≠ 102 ∧ M 75 a ≠ 103 := by omega
    have x1 := x_73 ha e kx a1
    have q1 := c_230 hB a1
    have hC := CB_nx hB nk.1 nk.2 a1
    have h1 := CR_nx h nk.1 nk.2 a1
    -- the two new memories
    have sx1 : xsm M (up_ M 0 75 (a + 1)) := xsm_nx
    generalize up_ M 0 75 (a + 1) = M1 at *
    have e78 : M1 0 78 = M 0 78 := sx1.2.1 78 (by decide)
    have e79 : M1 0 79 = M 0 79 := sx1.2.1 79 (by decide)
    have hX : ∀ (V : vv_) (Qr : qr_) (Qt : qt_), Cl_ wd0 (Tr_ wd0 pg0 (2 * (n' + 1) + 4)) V Qr Qt m_81 → Wk_ V → Tr_ wd0 pg0 (2 * (n' + 1) + 4) 77 [.inr (.inr 0)] (up_ (up_ (up_ (up_ (up_ (up_ (up_ M1 0 78 (M 0 78 + 1)) 52 (M 0 78) (M1 0 94)) 53 (M 0 78) (M1 0 95)) 51 (M 0 78) m) 0 79 (M 0 79 + 1)) 0 94 (M 0 78)) 0 95 0) (rv_ fun M1 => if o = 0 then Tr_ wd0 pg0 (2 * (n' + 1) + 4) 74 [.inr (.inr 0), .inl 43] M1 (ri_ fun v1 M2 => (if v1 = 0 then Tr_ wd0 pg0 (2 * (n' + 1) + 4) 75 [.inr (.inr 0), .inl 1, .inl (M2 0 75)] M2 (rf_r fun v2 M3 => (if v2 = 1999 then False else Qt v2 M3)) Qt else V 146 [rr 0, ii o, ii (M 0 78)] [] M2)) Qt else V 208 [rr 0, ii o, ii (M 0 78)] [] M1) Qt → V 0 [rr 0, none, none] [] M := fun V Qr Qt hV hW g => px V Qr Qt hV hW (Ex_le (d := 2) (by (clear h hS hk ha e c1 c2 c3 c4 i9 toQ o1 o2 xo r6 n6 hR hm kx px bl b1 b2 b3 fqb hB pq a1 nk q1 x1 hC h1 sx1 e78 hV hW g; lia)) x1 _ _ (rv_i (b_81_49 (Tr_mono _) hV hW _ _ (by
      rw [e78, w32_id (by (clear h hS hk ha e c1 c4 c5 c6 i9 toQ o1 o2 xo r6 n3 hw hR hm kx px bl b1 b2 fqb hB pq a1 nk q1 x1 hC h1 sx1 e79 hV hW g; lia)) (by (clear h hS hk ha e c1 c4 c5 c6 i9 toQ o1 o2 xo r6 n3 hw hR hm kx px bl b1 b2 fqb hB pq a1 nk q1 x1 hC h1 sx1 e79 hV hW g; omega))]
      refine ⟨by (clear h hS hk ha e c1 c4 c5 c6 i9 toQ o1 o2 xo r6 n3 hw hR hm kx px bl b1 b2 fqb hB pq a1 nk q1 x1 hC h1 sx1 e79 hV hW g; lia), by omega, ?_⟩
      have e79' : ∀ z, (up_ (up_ (up_ (up_ M1 0 78 (M 0 78 + 1)) 52 (M 0 78) (M1 0 94)) 53 (M 0 78) (M1 0 95)) 51 (M 0 78) z) 0 79 = M 0 79 := fun z => by rw [up_ne (by decide), up_ne (by decide), up_ne (by decide), upo (by decide)]; exact e79
      rcases hm with ⟨z, rfl, _⟩ | ⟨z, rfl, _⟩
      · rw [if_neg (by (clear h hS hk ha e c1 c2 c3 c4 c5 c6 i9 toQ o1 o2 xo r6 n6 n3 hw hR kx px bl b1 b2 fqb hB pq a1 nk q1 x1 hC h1 sx1 e78 e79 hV hW e79' b3 g; omega))]
        refine ⟨by (clear h hS hk ha e c1 c4 c5 c6 i9 toQ o1 o2 xo r6 n3 hw hR kx px bl b1 b2 fqb hB pq a1 nk q1 x1 hC h1 sx1 e79 hV hW e79' z g; omega), b_81_99 (Tr_mono _) hV hW _ _ _ ?_⟩
        rw [e79', w32_id (by (clear h hS hk ha e c1 c2 c3 c4 i9 toQ o1 o2 xo r6 n6 hR kx px bl b1 b2 fqb hB pq a1 nk q1 x1 hC h1 sx1 e78 hV hW e79' z b3 g; omega)) (by (clear h hS hk ha e c1 c2 c3 c4 i9 toQ o1 o2 xo r6 n6 hR kx px bl b1 b2 fqb hB pq a1 nk q1 x1 hC h1 sx1 e78 hV hW e79' z b3 g; omega))]; exact g
      · rw [if_pos z]
        refine ⟨by (clear h hS hk ha e c1 c4 c5 c6 i9 toQ o1 o2 xo r6 n3 hw hR kx px bl b1 b2 fqb hB pq a1 nk q1 x1 hC h1 sx1 e79 hV hW e79' z g; omega), b_81_99 (Tr_mono _) hV hW _ _ _ ?_⟩
        rw [e79', w32_id (by omega) (by omega)]; exact g))))
    have hQ : QL N (up_ (up_ (nx_ Nb) 6 172 (M 0 78 + 1)) 6 186 (M 0 79 + 1)) := toQ fun Qr Qt g => t_403 fun V hV hW => pq V Qr Qt hV hW (Ex_le (d := 2) (by decide) q1 _ _ (rv_i (Ex_le (d := 1) (by decide) (c_227 hC) _ _ (ri_i (by
      have u1 : nx_ Nb 6 172 = M 0 78 := by unfold nx_; rw [upo (by decide), bl 6 (by decide)]; exact c1
      have u2 : nx_ Nb 6 186 = M 0 79 := by unfold nx_; rw [upo (by decide), bl 6 (by decide)]; exact c4
      rw [if_pos rfl, u1, u2, w32_id (by (clear h hS hk ha e c1 c4 c5 c6 i9 toQ o1 o2 xo r6 n3 hw hR hm kx px bl b1 b2 fqb hB pq a1 nk q1 x1 hC h1 sx1 e79 hX g hV hW u2; lia)) (by (clear h hS hk ha e c1 c4 c5 c6 i9 toQ o1 o2 xo r6 n3 hw hR hm kx px bl b1 b2 fqb hB pq a1 nk q1 x1 hC h1 sx1 e79 hX g hV hW u2; lia)), w32_id (by (clear h hS hk ha e c1 c2 c3 c4 i9 toQ o1 o2 xo r6 n6 hR hm kx px bl b1 b2 b3 fqb hB pq a1 nk q1 x1 hC h1 sx1 e78 hX g hV hW u1; omega)) (by (clear h hS hk ha e c1 c2 c3 c4 i9 toQ o1 o2 xo r6 n6 hR hm kx px bl b1 b2 b3 fqb hB pq a1 nk q1 x1 hC h1 sx1 e78 hX g hV hW u1; omega))]; exact g)))))
    have y0 : ∀ r, r ∉ [0, 51, 52, 53] → (up_ (up_ (up_ (up_ (up_ (up_ (up_ M1 0 78 (M 0 78 + 1)) 52 (M 0 78) (M1 0 94)) 53 (M 0 78) (M1 0 95)) 51 (M 0 78) m) 0 79 (M 0 79 + 1)) 0 94 (M 0 78)) 0 95 0) r = M1 r := fun r hr => by
      simp only [List.mem_cons, List.not_mem_nil, or_false, not_or] at hr
      rw [up_ne hr.1, up_ne hr.1, up_ne hr.1, up_ne hr.2.1, up_ne hr.2.2.2, up_ne hr.2.2.1, up_ne hr.1]
    have y1 : ∀ i, i ∉ [78, 79, 94, 95] → (up_ (up_ (up_ (up_ (up_ (up_ (up_ M1 0 78 (M 0 78 + 1)) 52 (M 0 78) (M1 0 94)) 53 (M 0 78) (M1 0 95)) 51 (M 0 78) m) 0 79 (M 0 79 + 1)) 0 94 (M 0 78)) 0 95 0) 0 i = M1 0 i := fun i hi => by
      simp only [List.mem_cons, List.not_mem_nil, or_false, not_or] at hi
      rw [upo hi.2.2.2, upo hi.2.2.1, upo hi.2.1, up_ne (by decide), up_ne (by decide), up_ne (by decide), upo hi.1]
    have y2 : (up_ (up_ (up_ (up_ (up_ (up_ (up_ M1 0 78 (M 0 78 + 1)) 52 (M 0 78) (M1 0 94)) 53 (M 0 78) (M1 0 95)) 51 (M 0 78) m) 0 79 (M 0 79 + 1)) 0 94 (M 0 78)) 0 95 0) 0 78 = M 0 78 + 1 ∧ (up_ (up_ (up_ (up_ (up_ (up_ (up_ M1 0 78 (M 0 78 + 1)) 52 (M 0 78) (M1 0 94)) 53 (M 0 78) (M1 0 95)) 51 (M 0 78) m) 0 79 (M 0 79 + 1)) 0 94 (M 0 78)) 0 95 0) 0 79 = M 0 79 + 1 ∧ (up_ (up_ (up_ (up_ (up_ (up_ (up_ M1 0 78 (M 0 78 + 1)) 52 (M 0 78) (M1 0 94)) 53 (M 0 78) (M1 0 95)) 51 (M 0 78) m) 0 79 (M 0 79 + 1)) 0 94 (M 0 78)) 0 95 0) 0 94 = M 0 78 ∧ (up_ (up_ (up_ (up_ (up_ (up_ (up_ M1 0 78 (M 0 78 + 1)) 52 (M 0 78) (M1 0 94)) 53 (M 0 78) (M1 0 95)) 51 (M 0 78) m) 0 79 (M 0 79 + 1)) 0 94 (M 0 78)) 0 95 0) 0 95 = 0 := by
      refine ⟨?_, ?_, ?_, up_at⟩
      · rw [upo (by decide), upo (by decide), upo (by decide), up_ne (by decide), up_ne (by decide), up_ne (by decide), up_at]
      · rw [upo (by decide), upo (by decide), up_at]
      · rw [upo (by decide), up_at]
    have y3 : ∀ r, r ∈ [51, 52, 53] → ∀ i, i ≠ M 0 78 → (up_ (up_ (up_ (up_ (up_ (up_ (up_ M1 0 78 (M 0 78 + 1)) 52 (M 0 78) (M1 0 94)) 53 (M 0 78) (M1 0 95)) 51 (M 0 78) m) 0 79 (M 0 79 + 1)) 0 94 (M 0 78)) 0 95 0) r i = M1 r i := fun r hr i hi => by
      simp only [List.mem_cons, List.not_mem_nil, or_false] at hr
      rcases hr with rfl | rfl | rfl
      · rw [up_ne (by decide), up_ne (by decide), up_ne (by decide), upo hi, up_ne (by decide), up_ne (by decide), up_ne (by decide)]
      · rw [up_ne (by decide), up_ne (by decide), up_ne (by decide), up_ne (by decide), up_ne (by decide), upo hi, up_ne (by decide)]
      · rw [up_ne (by decide), up_ne (by decide), up_ne (by decide), up_ne (by decide), upo hi, up_ne (by decide), up_ne (by decide)]
    have y4 : (up_ (up_ (up_ (up_ (up_ (up_ (up_ M1 0 78 (M 0 78 + 1)) 52 (M 0 78) (M1 0 94)) 53 (M 0 78) (M1 0 95)) 51 (M 0 78) m) 0 79 (M 0 79 + 1)) 0 94 (M 0 78)) 0 95 0) 51 (M 0 78) = m ∧ (up_ (up_ (up_ (up_ (up_ (up_ (up_ M1 0 78 (M 0 78 + 1)) 52 (M 0 78) (M1 0 94)) 53 (M 0 78) (M1 0 95)) 51 (M 0 78) m) 0 79 (M 0 79 + 1)) 0 94 (M 0 78)) 0 95 0) 52 (M 0 78) = M1 0 94 ∧ (up_ (up_ (up_ (up_ (up_ (up_ (up_ M1 0 78 (M 0 78 + 1)) 52 (M 0 78) (M1 0 94)) 53 (M 0 78) (M1 0 95)) 51 (M 0 78) m) 0 79 (M 0 79 + 1)) 0 94 (M 0 78)) 0 95 0) 53 (M 0 78) = M1 0 95 := by
      refine ⟨?_, ?_, ?_⟩
      · rw [up_ne (by decide), up_ne (by decide), up_ne (by decide), up_at]
      · rw [up_ne (by decide), up_ne (by decide), up_ne (by decide), up_ne (by decide), up_ne (by decide), up_at]
      · rw [up_ne (by decide), up_ne (by decide), up_ne (by decide), up_ne (by decide), up_at]
    have z0 : ∀ r, r ≠ 6 → (up_ (up_ (nx_ Nb) 6 172 (M 0 78 + 1)) 6 186 (M 0 79 + 1)) r = Nb r := fun r hr => by unfold nx_; rw [up_ne hr, up_ne hr, up_ne hr]
    have z1 : ∀ i, i ∉ [172, 186] → (up_ (up_ (nx_ Nb) 6 172 (M 0 78 + 1)) 6 186 (M 0 79 + 1)) 6 i = nx_ N 6 i := fun i hi => by
      simp only [List.mem_cons, List.not_mem_nil, or_false, not_or] at hi
      rw [upo hi.2, upo hi.1]
      unfold nx_
      rw [bl 6 (by decide)]
      by_cases z : i = 12
      · subst z; rw [up_at, up_at]
      · rw [upo z, upo z, bl 6 (by decide)]
    have z2 : (up_ (up_ (nx_ Nb) 6 172 (M 0 78 + 1)) 6 186 (M 0 79 + 1)) 6 172 = M 0 78 + 1 ∧ (up_ (up_ (nx_ Nb) 6 172 (M 0 78 + 1)) 6 186 (M 0 79 + 1)) 6 186 = M 0 79 + 1 := ⟨by rw [upo (by decide), up_at], up_at⟩
    have fx2 : XTd M (up_ (up_ (up_ (up_ (up_ (up_ (up_ M1 0 78 (M 0 78 + 1)) 52 (M 0 78) (M1 0 94)) 53 (M 0 78) (M1 0 95)) 51 (M 0 78) m) 0 79 (M 0 79 + 1)) 0 94 (M 0 78)) 0 95 0) := XTd_0 (XTd_0 (XTd_0 (XTd_r (XTd_r (XTd_r (XTd_0 (XTd_c (xsm_XT sx1)) (by decide)) (by decide) (by decide)) (by decide) (by decide)) (by decide) (by decide)) (by decide)) (by decide)) (by decide)
    have fq2 : QTd N (up_ (up_ (nx_ Nb) 6 172 (M 0 78 + 1)) 6 186 (M 0 79 + 1)) := QTd_6 (QTd_6 (QTd_6 fqb (by decide)) (by decide)) (by decide)
    generalize (up_ (up_ (up_ (up_ (up_ (up_ (up_ M1 0 78 (M 0 78 + 1)) 52 (M 0 78) (M1 0 94)) 53 (M 0 78) (M1 0 95)) 51 (M 0 78) m) 0 79 (M 0 79 + 1)) 0 94 (M 0 78)) 0 95 0) = M2 at *
    generalize (up_ (up_ (nx_ Nb) 6 172 (M 0 78 + 1)) 6 186 (M 0 79 + 1)) = N2 at *
    have nxr : ∀ r, r ≠ 6 → nx_ N r = N r := fun r hr => by unfold nx_; rw [up_ne hr]
    have h2 : CR b M2 N2 (a + 1) := by
      refine CR_bl (o := o) (m := m) h1 e78 e79 n6 n3 o1 ⟨fun z => by (clear h hS hk ha e c1 c2 c3 c4 c5 c6 i9 toQ o1 o2 xo r6 n6 n3 hw hR px bl b1 b2 b3 fqb hB pq a1 q1 x1 hC h1 sx1 e78 e79 hX y0 y1 y2 y3 fx2 hQ z0 z1 z2 fq2 nxr; lia), by (clear h hS hk ha e c1 c2 c3 c4 c5 c6 i9 toQ o1 o2 xo r6 n6 n3 hw hR px bl b1 b2 b3 fqb hB pq a1 q1 x1 hC h1 sx1 e78 e79 hX y0 y1 y2 y3 fx2 hQ z0 z1 z2 fq2 nxr; lia), by (clear h hS hk ha e c1 c2 c3 c4 c5 c6 i9 toQ o1 o2 xo r6 n6 n3 hw hR px bl b1 b2 b3 fqb hB pq a1 q1 x1 hC h1 sx1 e78 e79 hX y0 y1 y2 y3 fx2 hQ z0 z1 z2 fq2 nxr; lia)⟩ y0 y1 y2 y3 y4 (fun r hr => ?_) z1 z2 (fun r hr i hi => ?_) (fun r hr i hi => ?_) ?_
      · simp only [List.mem_cons, List.not_mem_nil, or_false, not_or] at hr
        rw [z0 r hr.1, bl r (by simp only [List.mem_cons, List.not_mem_nil, or_false, not_or]; exact hr.2), nxr r hr.1]
      · simp only [List.mem_cons, List.not_mem_nil, or_false] at hr
        rcases hr with rfl | rfl
        · rw [z0 262 (by decide), (b1 i hi).1, nxr 262 (by decide)]
        · rw [z0 266 (by decide), (b1 i hi).2, nxr 266 (by decide)]
      · simp only [List.mem_cons, List.not_mem_nil, or_false] at hr
        rcases hr with rfl | rfl
        · rw [z0 263 (by decide), (b2 i hi).1, nxr 263 (by decide)]
        · rw [z0 264 (by decide), (b2 i hi).2, nxr 264 (by decide)]
      · rw [z0 262 (by decide), z0 263 (by decide), z0 264 (by decide), z0 266 (by decide)]; exact b3
    have S2 := SGP_d hS fx2 fq2
    have kb : ∀ {M' N'}, KPd M2 N2 M' N' → KPc M N M' N' := fun g => KPc_bl rfl rfl y2.1 y2.2.1 (fun j hj => by rw [z0 263 (by decide), z0 264 (by decide)]; exact b2 j hj) (fun j hj => by rw [z0 266 (by decide)]; exact (b1 j hj).2) g
    -- its rows
    rcases hR M2 N2 (a + 1) h2 S2 (by (clear h hS hk ha e c1 c2 c3 c4 c5 c6 i9 toQ o1 o2 xo r6 n6 n3 hR hm kx px bl b1 b2 b3 fqb hB pq a1 nk q1 x1 hC h1 sx1 e78 hX y0 y1 y3 y4 fx2 hQ z0 z1 z2 fq2 nxr h2 S2 kb; omega)) with ⟨M3, N3, g1, g2, ⟨a3, a31, h3, ns3, kp3⟩, fx3, fq3⟩ | ⟨M3, g1, fx3, gb⟩
    · have w3 : M3 0 79 = M 0 79 + 1 := by rw [kp3.1.2, y2.2.1]
      have t3 := kp3.2.1 (M 0 79) (by omega) (by (clear h hS hk ha e c1 c2 c3 c4 c5 c6 i9 toQ o1 o2 xo r6 n6 n3 hR hm kx px bl b1 b2 b3 fqb hB pq a1 nk q1 x1 hC h1 sx1 e78 hX y0 y1 y3 y4 fx2 hQ z0 z1 z2 fq2 nxr h2 S2 kb g1 g2 a31 h3 ns3 kp3 fx3 fq3 w3; omega))
      have k3 : N3 263 (M3 0 79 - 1) = M 0 78 := by rw [w3, show M 0 79 + 1 - 1 = M 0 79 by (clear h hS hk ha e c1 c2 c3 c4 c5 c6 i9 toQ o1 o2 xo r6 n6 n3 hw hR hm kx px bl b1 b2 b3 fqb hB pq a1 nk q1 x1 hC h1 sx1 e78 e79 hX y0 y1 y2 y3 y4 fx2 hQ z0 z1 z2 fq2 nxr h2 S2 kb g1 g2 a31 h3 ns3 kp3 fx3 fq3 w3 t3; omega), t3.1, z0 263 (by decide)]; exact b3.2.2.1
      have r3 : N3 264 (M3 0 79 - 1) = 0 := by rw [w3, show M 0 79 + 1 - 1 = M 0 79 by omega, t3.2, z0 264 (by decide)]; exact b3.2.2.2
      have o3 : N3 266 (M 0 78) = o := by rw [kp3.2.2 (M 0 78) (by omega) (by (clear h hS hk ha e c1 c2 c3 c4 c5 c6 i9 toQ o1 o2 xo r6 n6 n3 hw hR hm kx px bl b1 b2 fqb hB pq a1 nk q1 x1 hC h1 sx1 e79 hX y0 y1 y3 y4 fx2 hQ z0 z1 z2 fq2 nxr h2 S2 kb g1 g2 a31 h3 ns3 kp3 fx3 fq3 w3 t3 k3 r3; lia)), z0 266 (by decide)]; exact b3.2.1
      have S3 := SGP_d S2 fx3 fq3
      have ha3 := CB_a h3.1
      have e3 := h3.1.2.2.1.1
      by_cases oz : o = 0
      · have top3 := h3.2.2.2.2.1.2 (M3 0 79 - 1) (by (clear h hS hk ha e c1 c2 c3 c4 i9 toQ o1 o2 xo r6 n6 hR hm kx px bl b1 b2 b3 fqb hB pq a1 nk q1 x1 hC h1 sx1 e78 hX y0 y1 y3 y4 fx2 hQ z0 z1 fq2 nxr h2 S2 kb g1 g2 a31 h3 ns3 kp3 fx3 fq3 t3 k3 r3 o3 S3 ha3 e3 oz; lia)) (by (clear h hS hk ha e c1 c2 c3 c4 c5 c6 i9 toQ o1 o2 xo r6 n6 n3 hw hR hm kx px bl b1 b2 b3 fqb hB pq a1 nk q1 x1 hC h1 sx1 e78 e79 hX y0 y1 y2 y3 y4 fx2 hQ z0 z1 z2 fq2 nxr h2 S2 kb g1 g2 a31 h3 ns3 kp3 fx3 fq3 w3 t3 k3 r3 o3 S3 ha3 e3 oz; omega))
        have m3 : M3 51 (M 0 78) = 1 := by
          have := top3.2.2.2.2.1 (by rw [k3, o3]; exact oz)
          rw [k3] at this; (clear h hS hk ha e c1 c2 c3 c4 c5 c6 i9 toQ o1 o2 xo r6 n6 n3 hw hR hm kx px bl b1 b2 b3 fqb hB pq a1 nk q1 x1 hC h1 sx1 e78 e79 hX y0 y1 y2 y3 y4 fx2 hQ z0 z1 z2 fq2 nxr h2 S2 kb g1 g2 a31 h3 ns3 kp3 fx3 fq3 w3 t3 k3 o3 S3 ha3 e3 oz top3; omega)
        by_cases c43 : M3 75 a3 = 43
        · rcases or_x (k := M 0 78) (o := o) (dx := 2 * (n' + 1) + 4) hR (by (clear h hS hk ha e c1 c2 c3 c4 c5 c6 i9 toQ o1 o2 xo r6 n6 n3 hw hR hm kx px bl b1 b2 b3 fqb hB pq a1 nk q1 x1 hC h1 sx1 e78 e79 hX y0 y1 y2 y3 y4 fx2 hQ z0 z1 z2 fq2 nxr h2 S2 kb g1 g2 a31 h3 ns3 kp3 fx3 fq3 w3 t3 k3 r3 o3 S3 ha3 e3 oz top3 m3 c43; omega)) 3 M3 N3 a3 h3 S3 ns3 (by (clear h hS hk ha e c1 c2 c3 c4 c5 c6 i9 toQ o1 o2 xo r6 n6 n3 hR hm kx px bl b1 b2 b3 fqb hB pq a1 nk q1 x1 hC h1 sx1 e78 hX y0 y1 y3 y4 fx2 hQ z0 z1 fq2 nxr h2 S2 kb g1 g2 a31 h3 ns3 kp3 fx3 fq3 t3 k3 r3 o3 S3 ha3 e3 oz top3 m3 c43; lia)) (by (clear h hS hk ha e c1 c2 c3 c4 i9 toQ o1 o2 xo r6 n6 hR hm kx px bl b1 b2 b3 fqb hB pq a1 nk q1 x1 hC h1 sx1 e78 hX y0 y1 y3 y4 fx2 hQ z0 z1 fq2 nxr h2 S2 kb g1 g2 a31 h3 ns3 kp3 fx3 fq3 t3 k3 r3 o3 S3 ha3 e3 oz top3 m3 c43; lia)) k3 (by rw [o3]; exact oz) (.inr c43) (by (clear h hS hk ha e c1 c2 c3 c4 c5 c6 i9 toQ o1 o2 xo r6 n6 n3 hw hR hm kx px bl b1 b2 b3 fqb hB pq a1 nk q1 x1 hC h1 sx1 e78 e79 hX y0 y1 y2 y3 y4 fx2 hQ z0 z1 z2 fq2 nxr h2 S2 kb g1 g2 a31 h3 ns3 kp3 fx3 fq3 w3 t3 k3 r3 o3 S3 ha3 e3 oz top3 c43; omega)) with ⟨M', N', gx, gq, ⟨a', aa, hC', kd⟩, fx, fq⟩ | ⟨M', gx, fx, gb⟩
          · refine .inl ⟨M', N', fun Qr Qt g => t_81 fun V hV hW => hX V Qr Qt hV hW (Ex_le (d := 2 * n' + 6) (by (clear h hS hk ha e c1 c2 c3 c4 c5 c6 i9 toQ o1 o2 xo r6 n6 n3 hw hR hm kx px bl b1 b2 b3 fqb hB pq a1 nk q1 x1 hC h1 sx1 e78 e79 hX y0 y1 y2 y3 y4 fx2 hQ z0 z1 z2 fq2 nxr h2 S2 kb g1 g2 a31 h3 ns3 kp3 fx3 fq3 w3 t3 k3 r3 o3 S3 ha3 e3 oz top3 m3 c43 gx gq aa hC' kd fx fq g hV hW; omega)) g1 _ _ (rv_i ?_)), RC_tr (RC_tr hQ g2) gq, ⟨a', by (clear h hS hk ha c1 c2 c3 c4 c5 c6 i9 toQ o1 o2 xo r6 n6 n3 hw hR hm kx px bl b1 b2 b3 fqb hB pq a1 nk q1 x1 hC h1 sx1 e78 e79 hX y0 y1 y2 y3 y4 fx2 hQ z0 z1 z2 fq2 nxr h2 S2 kb g1 g2 h3 ns3 kp3 fx3 fq3 w3 t3 k3 r3 o3 S3 ha3 oz top3 m3 c43 gx gq hC' kd fx fq; omega), hC', kb (KPd_c kp3 kd)⟩, XTd_tr fx2 (XTd_tr fx3 fx), QTd_tr fq2 (QTd_tr fq3 fq)⟩
            rw [if_pos oz]
            refine Ex_le (d := 1) (by (clear h hS hk ha e c1 c2 c3 c4 i9 toQ o1 o2 xo r6 n6 hR hm kx px bl b1 b2 b3 fqb hB pq a1 nk q1 x1 hC h1 sx1 e78 hX y0 y1 y3 y4 fx2 hQ z0 z1 fq2 nxr h2 S2 kb g1 g2 a31 h3 ns3 kp3 fx3 fq3 t3 k3 r3 o3 S3 ha3 e3 oz top3 m3 c43 gx gq aa hC' kd fx fq g hV hW; lia)) (x_74t ha3 e3 c43) _ _ (ri_i ?_)
            rw [if_neg (by decide)]; exact gx V Qr Qt hV hW g
          · refine .inr ⟨M', fun Qr Qt g => t_81 fun V hV hW => hX V Qr Qt hV hW (Ex_le (d := 2 * n' + 6) (by omega) g1 _ _ (rv_i ?_)), XTd_tr fx2 (XTd_tr fx3 fx), fun hb => ?_⟩
            · rw [if_pos oz]
              refine Ex_le (d := 1) (by (clear h hS hk ha e c1 c2 c3 c4 i9 toQ o1 o2 xo r6 n6 hR hm kx px bl b1 b2 b3 fqb hB pq a1 nk q1 x1 hC h1 sx1 e78 hX y0 y1 y3 y4 fx2 hQ z0 z1 fq2 nxr h2 S2 kb g1 g2 a31 h3 ns3 kp3 fx3 fq3 t3 k3 r3 o3 S3 ha3 e3 oz top3 m3 c43 gx fx gb g hV hW; lia)) (x_74t ha3 e3 c43) _ _ (ri_i ?_)
              rw [if_neg (by decide)]; exact gx V Qr Qt hV hW g
            · obtain ⟨N', gq, hF, fq⟩ := gb hb
              exact ⟨N', QL_E (RC_tr hQ g2) gq, hF, QTd_tr fq2 (QTd_tr fq3 fq)⟩
        · refine .inr ⟨bdX M3 1 (M3 76 a3), fun Qr Qt g => t_81 fun V hV hW => hX V Qr Qt hV hW (Ex_le (d := 2 * n' + 6) (by omega) g1 _ _ (rv_i ?_)), XTd_bd (XTd_tr fx2 fx3), fun hb => ?_⟩
          · rw [if_pos oz]
            refine Ex_le (d := 1) (by (clear h hS hk ha e c1 c2 c3 c4 i9 toQ o1 o2 xo r6 n6 hR hm kx px bl b1 b2 b3 fqb hB pq a1 nk q1 x1 hC h1 sx1 e78 hX y0 y1 y3 y4 fx2 hQ z0 z1 fq2 nxr h2 S2 kb g1 g2 a31 h3 ns3 kp3 fx3 fq3 t3 k3 r3 o3 S3 ha3 e3 oz top3 m3 c43 g hV hW; lia)) (x_74f ha3 e3 c43) _ _ (ri_i ?_)
            rw [if_pos rfl, e3]
            refine Ex_le (d := 1) (by (clear h hS hk ha e c1 c2 c3 c4 i9 toQ o1 o2 xo r6 n6 hR hm kx px bl b1 b2 b3 fqb hB pq a1 nk q1 x1 hC h1 sx1 e78 hX y0 y1 y3 y4 fx2 hQ z0 z1 fq2 nxr h2 S2 kb g1 g2 a31 h3 ns3 kp3 fx3 fq3 t3 k3 r3 o3 S3 ha3 e3 oz top3 m3 c43 g hV hW; lia)) (x_75c ha3) _ _ (rf_i ?_)
            rw [if_neg (by decide)]; exact g
          · exact ⟨_, QL_E (RC_tr hQ g2) (q_wr h3 hb ns3 (.inl (by (clear h hS hk ha e c1 c2 c3 c4 i9 toQ o1 o2 xo r6 n6 hR hm kx px bl b1 b2 b3 fqb hB pq a1 nk q1 x1 hC h1 sx1 e78 hX y0 y1 y3 y4 fx2 hQ z0 z1 fq2 nxr h2 S2 kb g1 g2 a31 h3 ns3 kp3 fx3 fq3 t3 k3 r3 o3 S3 ha3 e3 oz top3 m3 c43 hb; lia))) (fun z => absurd z c43) (fun _ _ => ⟨by rw [k3, o3]; exact oz, by (clear h hS hk ha e c1 c2 c3 c4 c5 c6 i9 toQ o1 o2 xo r6 n6 n3 hw hR hm kx px bl b1 b2 b3 fqb hB pq a1 nk q1 x1 hC h1 sx1 e78 e79 hX y0 y1 y2 y3 y4 fx2 hQ z0 z1 z2 fq2 nxr h2 S2 kb g1 g2 a31 h3 ns3 kp3 fx3 fq3 w3 t3 k3 o3 S3 ha3 e3 oz top3 m3 c43 hb; omega)⟩)), FQc_b (CB_16 h3.1 hb) (by decide), QTd_bf (QTd_tr fq2 fq3)⟩
      · rcases en_x (dx := 2 * (n' + 1) + 4) (o := o) (by (clear h hS hk ha e c1 c2 c3 c4 i9 toQ o1 o2 xo r6 n6 hR hm kx px bl b1 b2 b3 fqb hB pq a1 nk q1 x1 hC h1 sx1 e78 hX y0 y1 y3 y4 fx2 hQ z0 z1 fq2 nxr h2 S2 kb g1 g2 a31 h3 ns3 kp3 fx3 fq3 t3 k3 r3 o3 S3 ha3 e3 oz; lia)) h3 ns3 (by omega) k3 (fun z => by (clear h hS hk ha e c1 c2 c3 c4 c5 c6 i9 toQ o1 o2 xo r6 n6 n3 hw hR hm kx px bl b1 b2 b3 fqb hB pq a1 nk q1 x1 hC h1 sx1 e78 e79 hX y0 y1 y2 y3 y4 fx2 hQ z0 z1 z2 fq2 nxr h2 S2 kb g1 g2 a31 h3 ns3 kp3 fx3 fq3 w3 t3 k3 r3 S3 ha3 e3; lia)) with ⟨M', N', gx, gq, ⟨a', aa, hC', kd⟩, fx, fq⟩ | ⟨M', gx, fx, gb⟩
        · refine .inl ⟨M', N', fun Qr Qt g => t_81 fun V hV hW => hX V Qr Qt hV hW (Ex_le (d := 2 * n' + 6) (by omega) g1 _ _ (rv_i ?_)), RC_tr (RC_tr hQ g2) gq, ⟨a', by omega, hC', kb (KPd_c kp3 kd)⟩, XTd_tr fx2 (XTd_tr fx3 fx), QTd_tr fq2 (QTd_tr fq3 fq)⟩
          rw [if_neg oz]; exact gx V Qr Qt hV hW g
        · refine .inr ⟨M', fun Qr Qt g => t_81 fun V hV hW => hX V Qr Qt hV hW (Ex_le (d := 2 * n' + 6) (by omega) g1 _ _ (rv_i ?_)), XTd_tr fx2 (XTd_tr fx3 fx), fun hb => ?_⟩
          · rw [if_neg oz]; exact gx V Qr Qt hV hW g
          · obtain ⟨N', gq, hF, fq⟩ := gb hb
            exact ⟨N', QL_E (RC_tr hQ g2) gq, hF, QTd_tr fq2 (QTd_tr fq3 fq)⟩
    · refine .inr ⟨M3, fun Qr Qt g => t_81 fun V hV hW => hX V Qr Qt hV hW (Th_le (d := 2 * n' + 6) (by omega) g1 _ _ g), XTd_tr fx2 fx3, fun hb => ?_⟩
      obtain ⟨N', gq, hF, fq⟩ := gb hb
      exact ⟨N', QL_E hQ gq, hF, QTd_tr fq2 fq⟩
  · have e12 : a = 1200 := by omega
    refine .inr ⟨bdX M 2 (M 76 a), fun Qr Qt g => t_81 fun V hV hW => px V Qr Qt hV hW (Th_le (d := 2) (by (clear h hS hk ha e c1 c2 c3 c4 i9 toQ o1 o2 xo r6 n6 hR hm kx px bl b1 b2 b3 fqb hB pq a1 e12 g hV hW; lia)) (x_73b ha e (.inr ⟨kx, e12, rfl⟩)) _ _ g), XTd_bd XTd_rf, fun hb => ?_⟩
    have sp := sp_b (p := M 76 a) (f := 2) (CB_16 hB hb) (by decide)
    refine ⟨_, QL_E (toQ (N' := bf_ Nb 2 (M 76 a)) fun Qr Qt g => t_403 fun V hV hW => pq V Qr Qt hV hW (Ex_le (d := 2) (by decide) (c_230b hB hb e12) _ _ (rv_i (Ex_le (d := 1) (by decide) (s_227 sp) _ _ (ri_i ?_))))) (QEc_s sp), FQc_b (CB_16 hB hb) (by decide), QTd_bf fqb⟩
    rw [if_neg (by decide)]; exact g
end ALd
end T432_al
section T433_rw
/-! charts: all rows of lines (X 77 | Q 398's loop) -/
section RWa
variable {b : Int} {M N M' N' M1 N1 M2 N2 : mm_} {a a' k f t x c w p i u v s l o m A W : Int}
theorem JO_d [Inhabited fz_] {d n : Nat} {as : List pv_} (h : JO d n as b M N (fun M' N' => ∃ a', a < a' ∧ CR b M' N' a')) {d' : Nat} (hd : d ≤ d') : JOd d' n as b M N (fun M' N' => ∃ a', a < a' ∧ CR b M' N' a' ∧ KPc M N M' N') := by
  rcases h with ⟨M', N', g1, g2, ⟨a', g3, g4⟩, g5, g6⟩ | ⟨M', g1, g2, g3⟩
  · exact .inl ⟨M', N', Ex_le hd g1, g2, ⟨a', g3, g4, KPc_c g5 g6⟩, XTd_c g5, QTd_c g6⟩
  · refine .inr ⟨M', Th_le hd g1, XTd_c g2, fun hb => ?_⟩
    obtain ⟨N', y1, y2, y3⟩ := g3 hb
    exact ⟨N', y1, y2, QTd_c y3⟩
/-- the loop, given what one round does -/
theorem rw_l [Inhabited fz_] {n : Nat} (hR : ∀ n' : Nat, n = n' + 1 → ROWS b n') : ∀ (q : Nat) (M N : mm_) (a : Int), CR b M N a → SGP M N → M 0 79 = 3 - (n : Int) → 1200 - a < q → JX (2 * n + 5) m_77 2 [rr 0, ii 1] b M N (RWR b M N a) := by
  intro q
  induction q with
  | zero => intro M N a h _ _ hq; have := CB_a h.1; omega
  | succ q ih =>
    intro M N a h hS hw hq
    have ha := CB_a h.1
    have e := h.1.2.2.1.1
    -- one round more
    have more : ∀ (nx : Nat), JOd (2 * n + 5) nx [.inr (.inr 0)] b M N (fun M' N' => ∃ a', a < a' ∧ CR b M' N' a' ∧ KPc M N M' N') → (∀ (V : vv_) (Qr : qr_) (Qt : qt_), Cl_ wd0 (Tr_ wd0 pg0 (2 * n + 5)) V Qr Qt m_77 → Wk_ V → Tr_ wd0 pg0 (2 * n + 5) nx [.inr (.inr 0)] M (rv_ fun M10 => V 2 [rr 0, ii 1] [] M10) Qt → V 2 [rr 0, ii 1] [] M) → JX (2 * n + 5) m_77 2 [rr 0, ii 1] b M N (RWR b M N a) := fun nx hj hx => by
      rcases hj with ⟨M1, N1, g1, g2, ⟨a1, g3, g4, g5⟩, g6, g7⟩ | ⟨M1, g1, g2, g3⟩
      · rcases ih M1 N1 a1 g4 (SGP_d hS g6 g7) (by rw [g5.1.2]; exact hw) (by (clear hR ih h hS hw ha hx g1 g2 g4 g5 g6 g7; lia)) with ⟨M', N', y1, y2, ⟨a', y3, y4, y5, y6⟩, y7, y8⟩ | ⟨M', y1, y2, y3⟩
        · exact .inl ⟨M', N', fun V Qr Qt hV hW g => hx V Qr Qt hV hW (g1 _ _ (rv_i (y1 V Qr Qt hV hW g))), RC_tr g2 y2, ⟨a', by (clear hR ih h hS hw hq ha hx g1 g2 g4 g5 g6 g7 y1 y2 y4 y5 y6 y7 y8; lia), y4, y5, KPc_tr g5 y6⟩, XTd_tr g6 y7, QTd_tr g7 y8⟩
        · refine .inr ⟨M', fun V Qr Qt hV hW g => hx V Qr Qt hV hW (g1 _ _ (rv_i (y1 V Qr Qt hV hW g))), XTd_tr g6 y2, fun hb => ?_⟩
          obtain ⟨N', z1, z2, z3⟩ := y3 hb
          exact ⟨N', QL_E g2 z1, z2, QTd_tr g7 z3⟩
      · exact .inr ⟨M1, fun V Qr Qt hV hW g => hx V Qr Qt hV hW (g1 _ _ g), g2, g3⟩
    by_cases c1 : M 75 a = 45
    · refine more 78 (JO_d (j_78 h c1) (by omega)) fun V Qr Qt hV hW g => b_77_2 (Tr_mono _) hV hW _ _ ?_
      rw [if_neg (by decide)]
      refine Ex_le (d := 1) (by (clear hR ih h hS hw hq ha e more c1 hV hW g; lia)) (x_74t ha e c1) _ _ (ri_i ?_)
      rw [if_neg (by decide)]; exact g
    · by_cases c2 : M 75 a = 46
      · refine more 81 (j_81 hR h hS hw (.inl c2)) fun V Qr Qt hV hW g => b_77_2 (Tr_mono _) hV hW _ _ ?_
        rw [if_neg (by decide)]
        refine Ex_le (d := 1) (by omega) (x_74f ha e c1) _ _ (ri_i ?_)
        rw [if_pos rfl]
        refine Ex_le (d := 1) (by omega) (x_74t ha e c2) _ _ (ri_i ?_)
        rw [if_neg (by decide)]; exact g
      · by_cases c3 : M 75 a = 47
        · refine more 81 (j_81 hR h hS hw (.inr c3)) fun V Qr Qt hV hW g => b_77_2 (Tr_mono _) hV hW _ _ ?_
          rw [if_neg (by decide)]
          refine Ex_le (d := 1) (by omega) (x_74f ha e c1) _ _ (ri_i ?_)
          rw [if_pos rfl]
          refine Ex_le (d := 1) (by omega) (x_74f ha e c2) _ _ (ri_i ?_)
          rw [if_pos rfl]
          refine Ex_le (d := 1) (by omega) (x_74t ha e c3) _ _ (ri_i ?_)
          rw [if_neg (by decide)]; exact g
        · have pre : ∀ (V : vv_) (Qr : qr_) (Qt : qt_), Cl_ wd0 (Tr_ wd0 pg0 (2 * n + 5)) V Qr Qt m_77 → Wk_ V → Tr_ wd0 pg0 (2 * n + 5) 74 [.inr (.inr 0), .inl 100] M (ri_ fun v4 M5 => (if v4 = 0 then Tr_ wd0 pg0 (2 * n + 5) 74 [.inr (.inr 0), .inl 25] M5 (ri_ fun v5 M7 => (if v5 = 0 then V 2 [rr 0, ii 0] [] M7 else Tr_ wd0 pg0 (2 * n + 5) 82 [.inr (.inr 0)] M7 (rv_ fun M8 => V 2 [rr 0, ii 1] [] M8) Qt)) Qt else Tr_ wd0 pg0 (2 * n + 5) 82 [.inr (.inr 0)] M5 (rv_ fun M6 => V 2 [rr 0, ii 1] [] M6) Qt)) Qt → V 2 [rr 0, ii 1] [] M := fun V Qr Qt hV hW g => b_77_2 (Tr_mono _) hV hW _ _ (by
            rw [if_neg (by decide)]
            refine Ex_le (d := 1) (by omega) (x_74f ha e c1) _ _ (ri_i ?_)
            rw [if_pos rfl]
            refine Ex_le (d := 1) (by omega) (x_74f ha e c2) _ _ (ri_i ?_)
            rw [if_pos rfl]
            refine Ex_le (d := 1) (by omega) (x_74f ha e c3) _ _ (ri_i ?_)
            rw [if_pos rfl]; exact g)
          by_cases c4 : M 75 a = 100
          · refine more 82 (JO_d (j_82 h hS (.inl c4)) (by omega)) fun V Qr Qt hV hW g => pre V Qr Qt hV hW (Ex_le (d := 1) (by omega) (x_74t ha e c4) _ _ (ri_i ?_))
            rw [if_neg (by decide)]; exact g
          · by_cases c5 : M 75 a = 25
            · refine more 82 (JO_d (j_82 h hS (.inr c5)) (by omega)) fun V Qr Qt hV hW g => pre V Qr Qt hV hW (Ex_le (d := 1) (by omega) (x_74f ha e c4) _ _ (ri_i ?_))
              rw [if_pos rfl]
              refine Ex_le (d := 1) (by omega) (x_74t ha e c5) _ _ (ri_i ?_)
              rw [if_neg (by decide)]; exact g
            · refine .inl ⟨M, N, fun V Qr Qt hV hW g => pre V Qr Qt hV hW (Ex_le (d := 1) (by omega) (x_74f ha e c4) _ _ (ri_i ?_)), RC_rf, ⟨a, Int.le_refl _, h, ⟨c1, c4, c5, c2, c3⟩, KPc_rf⟩, XTd_rf, QTd_rf⟩
              rw [if_pos rfl]
              refine Ex_le (d := 1) (by omega) (x_74f ha e c5) _ _ (ri_i ?_)
              rw [if_pos rfl]
              refine b_77_2 (Tr_mono _) hV hW _ _ ?_
              rw [if_pos rfl]; exact g
theorem rows_n [Inhabited fz_] : ∀ n : Nat, ROWS b n
  | 0 => fun M N a h hS hw => by
    rcases rw_l (n := 0) (fun n' e => absurd e (by omega)) (1202 - a).toNat M N a h hS hw (by have := CB_a h.1; omega) with ⟨M', N', g1, g⟩ | ⟨M', g1, g⟩
    · exact .inl ⟨M', N', fun Qr Qt z => t_77 fun V hV hW => b_77_0 (Tr_mono _) hV hW _ (g1 V Qr Qt hV hW z), g⟩
    · exact .inr ⟨M', fun Qr Qt z => t_77 fun V hV hW => b_77_0 (Tr_mono _) hV hW _ (g1 V Qr Qt hV hW z), g⟩
  | n + 1 => fun M N a h hS hw => by
    rcases rw_l (n := n + 1) (fun n' e => (show n = n' by omega) ▸ rows_n n) (1202 - a).toNat M N a h hS hw (by have := CB_a h.1; omega) with ⟨M', N', g1, g⟩ | ⟨M', g1, g⟩
    · exact .inl ⟨M', N', fun Qr Qt z => t_77 fun V hV hW => b_77_0 (Tr_mono _) hV hW _ (g1 V Qr Qt hV hW z), g⟩
    · exact .inr ⟨M', fun Qr Qt z => t_77 fun V hV hW => b_77_0 (Tr_mono _) hV hW _ (g1 V Qr Qt hV hW z), g⟩
end RWa
end T433_rw
section T434_nm
/-! what Q's value of a name's token is, by X's text -/
theorem Tks_hB [Inhabited fz_] {Mx Mq : mm_} {g : Int → Int} {n : Int} {m m' : Nat} (hn0 : 0 ≤ n) (hn : n ≤ 5000) (hb : ∀ i, 0 ≤ i → i < 5000 → -128 ≤ Mx 74 i ∧ Mx 74 i ≤ 127) (hag : Ag_ g (Mx 74) n) (hT : TXB Mx (Mx 74) n m) (hm1 : 1 ≤ m) (hm2 : kd_ (Mx 74) n (m - 1) = 102 ∨ m = 1202) (hQ : QT_ Mq g n m') : ∀ i, gdB Mx i → Mx 75 i = 100 → Mq 151 i = hs_ (Mx 74) (Mx 76 i) (Mx 77 i - Mx 76 i).toNat ∧ (∀ j : Nat, j < (Mx 77 i - Mx 76 i).toNat → 0 < cd_ (Mx 74 (Mx 76 i + j) % 256)) ∧ 1 ≤ Mx 77 i - Mx 76 i ∧ Mx 77 i - Mx 76 i ≤ 10 := by
  have hps : ∀ i, ps_ g n i = ps_ (Mx 74) n i := ps_ag hag hn0
  have hX : ∀ i : Nat, (i : Int) ≤ 1200 → (∀ j : Int, 0 ≤ j → j < i → Mx 75 j ≠ 102 ∧ Mx 75 j ≠ 103) → i < m := by
    intro i hi hj
    refine Classical.byContradiction fun h => ?_
    rcases hm2 with h1 | h1
    · have h2 := (hT (m - 1) (by omega)).2.1
      have := (hj ((m - 1 : Nat) : Int) (by omega) (by (clear hn0 hn hb hag hT hQ hps hi hj h1 h2; omega))).1
      rw [h2, h1] at this
      exact this rfl
    · omega
  have hK : ∀ i : Nat, (i : Int) ≤ 1200 → (∀ j : Int, 0 ≤ j → j < i → Mx 75 j ≠ 102 ∧ Mx 75 j ≠ 103) → ∀ k : Nat, k < i → kd_ (Mx 74) n k ≠ 102 ∧ kd_ (Mx 74) n k ≠ 103 := by
    intro i hi hj k hk
    have h1 := hX i hi hj
    have h2 := (hT k (by omega)).2.1
    have := hj k (by omega) (by omega)
    rw [h2] at this
    exact this
  have hqq : ∀ i : Nat, (i : Int) ≤ 1200 → (∀ j : Int, 0 ≤ j → j < i → Mx 75 j ≠ 102 ∧ Mx 75 j ≠ 103) → i < m' := by
    intro i hi hj
    refine Classical.byContradiction fun h => ?_
    obtain ⟨h1, h2, h3, h4, h5⟩ := hQ
    have h6 := hK i hi hj (m' - 1) (by omega)
    rw [hps] at h5
    have h7 : ps_ (Mx 74) n (m' - 1) < n := Classical.byContradiction fun h8 => h6.1 (kd_102.mpr h8)
    rcases h5 with h5 | h5 | h5
    · exact h5 h7
    · have h8 := kq_at (f := Mx 74) h7
      rw [qo_ag hag (ps_r (Mx 74) n hn0 _).1 h7] at h5
      rw [h5] at h8
      unfold KQ at h8
      have : (tkk_ (Mx 74) n (ps_ (Mx 74) n (m' - 1))).1 = 103 := by (clear hn0 hn hb hag hT hm1 hm2 hps hX hK hi hj h h1 h2 h3 h4 h6 h7 h5; omega)
      exact h6.2 this
    · omega
  have hY : ∀ i : Nat, gdB Mx i → Mx 76 i = ps_ (Mx 74) n i ∧ Mx 75 i = kd_ (Mx 74) n i ∧ Mx 77 i = en9_ (Mx 74) n i ∧ (dg_ (by_ (Mx 74) n (ps_ (Mx 74) n i)) = 1 → Mx 78 i = uv_ (Mx 74) (ps_ (Mx 74) n i) (ue_ (Mx 74) n (ps_ (Mx 74) n i) - ps_ (Mx 74) n i).toNat) ∧ Mq 150 i = ps_ (Mx 74) n i ∧ KQ (kd_ (Mx 74) n i) (Mq 149 i) (Mq 151 i) ∧ (ps_ (Mx 74) n i < n → Mq 151 i = (qo_ (Mx 74) n (ps_ (Mx 74) n i)).2.1) ∧ (∀ k : Nat, k < i → kd_ (Mx 74) n k ≠ 102) := by
    intro i hi
    have h1 := hT i (hX i hi.2.1 hi.2.2)
    have h2 := hQ.1 i (hqq i hi.2.1 hi.2.2)
    rw [hps] at h2
    refine ⟨h1.1, h1.2.1, h1.2.2.1, h1.2.2.2, h2.1, ?_, ?_, fun k hk => (hK i hi.2.1 hi.2.2 k hk).1⟩
    · by_cases h3 : ps_ (Mx 74) n i < n
      · have h4 := h2.2.1 h3
        rw [qo_ag hag (ps_r (Mx 74) n hn0 _).1 h3] at h4
        rw [h4.1, h4.2]; exact kq_at h3
      · rw [(h2.2.2 h3).1]
        have : kd_ (Mx 74) n i = 102 := kd_102.mpr h3
        rw [this]; exact .inr (.inr (.inl ⟨rfl, rfl⟩))
    · intro h3
      have h4 := h2.2.1 h3
      rw [qo_ag hag (ps_r (Mx 74) n hn0 _).1 h3] at h4
      exact h4.2
  intro i hi h1
  obtain ⟨i', rfl⟩ := Int.eq_ofNat_of_zero_le hi.1
  have h := hY i' hi
  rw [h.2.1] at h1
  have h2 := nm_at h1
  rw [h.2.2.2.2.2.2.1 h2.2.1, h2.2.2.2.2, h.1, h.2.2.1]
  unfold en9_
  rw [h2.2.2.1]
  have h3 : ps_ (Mx 74) n i' + 1 ≤ ne_ (Mx 74) n (ps_ (Mx 74) n i') := by
    rw [ne_, dif_pos (cd_w h2.1)]; exact ne_ge _ _ _
  exact ⟨rfl, fun j hj => (ne_in (Mx 74) n (ps_ (Mx 74) n i') _ (by omega) (by (clear hn0 hn hb hag hT hm1 hm2 hQ hps hX hK hqq hY hi h1; omega))).1, by omega, by (clear hn0 hn hb hag hT hm1 hm2 hQ hps hX hK hqq hY hi h1; omega)⟩
end T434_nm
section T435_tx
/-! charts: the text whole -/
/-- X's names of what is loaded, and Q's -/
def NMQ (M N : mm_) : Prop := (0 ≤ M 4 0 ∧ M 4 0 ≤ 20 ∧ N 6 17 = M 4 0) ∧ ∀ s, 0 ≤ s → s < M 4 0 → (1 ≤ M 43 s ∧ M 43 s ≤ 10) ∧ (∀ j : Nat, j < (M 43 s).toNat → (-128 ≤ M 42 (10 * s + j) ∧ M 42 (10 * s + j) ≤ 127) ∧ 0 < cd_ (M 42 (10 * s + j) % 256)) ∧ N 152 s = hs_ (M 42) (10 * s) (M 43 s).toNat
section TXa
variable {b : Int} {M N M' N' M1 N1 M2 N2 : mm_} {a a' k f t x c w p i u v s l o m A W : Int}
theorem NMQ_S [Inhabited fz_] (h : NMQ M N) (hT : TksB M N) (hk : ∀ i, gdB M i → M 75 i = 100 → N 151 i = hs_ (M 74) (M 76 i) (M 77 i - M 76 i).toNat ∧ (∀ j : Nat, j < (M 77 i - M 76 i).toNat → 0 < cd_ (M 74 (M 76 i + j) % 256)) ∧ 1 ≤ M 77 i - M 76 i ∧ M 77 i - M 76 i ≤ 10) (hb : ∀ i, 0 ≤ i → i < 5000 → -128 ≤ M 74 i ∧ M 74 i ≤ 127) : SGP M N := by
  refine ⟨h.1, fun s s0 s1 => ?_, fun t s ht ht1 s0 s1 => ?_⟩
  · have := (h.2 s s0 s1).1; omega
  · obtain ⟨n1, n2, n3⟩ := h.2 s s0 s1
    obtain ⟨k1, k2, k3, k4⟩ := hk t ht ht1
    have tt := (hT t ht).2.2.2.1
    rw [n3, k1]
    constructor
    · rintro ⟨e1, e2⟩
      rw [e1]
      refine hs_eq _ fun j hj => ?_
      rw [e2 j (by omega) (by (clear h hT hk hb ht ht1 s0 s1 n2 n3 k1 k2 k3 k4 tt e2; omega))]
    · intro e
      have z := hs_inj _ _ (fun j hj => (n2 j hj).2) k2 e
      refine ⟨by (clear h hT hk hb ht ht1 s0 s1 n2 n3 k1 k2 tt e; omega), fun i i0 i1 => ?_⟩
      have y := z.2 i.toNat (by (clear h hT hk hb ht ht1 s0 s1 n2 n3 k1 k2 tt e i0; omega))
      have ei : ((i.toNat : Nat) : Int) = i := by (clear h hT hk hb ht ht1 s0 s1 n1 n2 n3 k1 k2 k3 k4 tt e z i1 y; lia)
      rw [ei] at y
      have b1 := (n2 i.toNat (by omega)).1
      rw [ei] at b1
      have b2 := hb (M 76 t + i) (by (clear h hT hk hb ht ht1 s0 s1 n2 n3 k1 k2 e z y b1; lia)) (by omega)
      (clear h hT hk hb ht ht1 s0 s1 n1 n2 n3 k1 k2 k3 k4 tt e z i0 i1 ei; lia)
/-- the start of a chart's text -/
theorem CR_0 [Inhabited fz_] (hT : TksB M N) (x75 : M 0 75 = 0) (x : M 0 76 = 0 ∧ M 0 77 = 0 ∧ M 0 78 = 0 ∧ M 0 79 = 0 ∧ M 0 94 = -1 ∧ M 0 95 = 0 ∧ M 0 92 = 0) (q : N 6 12 = 0 ∧ N 6 13 = 0 ∧ N 6 16 = b ∧ N 6 170 = 0 ∧ N 6 171 = 0 ∧ N 6 172 = 0 ∧ N 6 186 = 0) (hb : b = 0 ∨ b = 1) : CR b M N 0 := by
  obtain ⟨x1, x2, x3, x4, x5, x6, x7⟩ := x
  obtain ⟨q1, q2, q3, q4, q5, q6, q7⟩ := q
  refine ⟨⟨hT, ⟨by omega, by omega, fun j j0 j1 => by omega⟩, ⟨x75, q1⟩, ⟨q3, hb⟩, fun _ => q2⟩, ⟨by (clear hT x75 hb x1 x3 x4 x5 x6 x7 q1 q2 q3 q5 q6 q7; lia), by (clear hT x75 hb x2 x3 x4 x5 x6 x7 q1 q2 q3 q4 q6 q7; lia), by (clear hT x75 hb x1 x2 x4 x5 x6 x7 q1 q2 q3 q4 q5 q7; lia), by (clear hT x75 hb x1 x2 x3 x5 x6 x7 q1 q2 q3 q4 q5 q6; lia)⟩, fun k k0 k1 => by omega, fun k k0 k1 => by omega, ⟨⟨?_, ?_⟩, fun j j0 j1 => by omega⟩, fun k k0 k1 => by omega, by omega, fun _ => ⟨by omega, fun z => absurd x7 z⟩⟩
  · unfold levQ; rw [if_pos x4]; exact x5
  · unfold rowQ; rw [if_pos x4]; exact x6
theorem JOd_t [Inhabited fz_] {d n : Nat} {as : List pv_} {R : mm_ → mm_ → Prop} (h : JOd d n as b M N R) : Tr_ wd0 pg0 d n as M (rv_ fun M' => XTd M M' ∧ ∃ N', QL N N' ∧ R M' N' ∧ QTd N N') (fun r M' => r = 7 ∧ XTd M M' ∧ (b = 0 → ∃ N', QEc N N' ∧ FQc M' N' ∧ QTd N N')) := by
  rcases h with ⟨M', N', g1, g2, g3, g4, g5⟩ | ⟨M', g1, g2, g3⟩
  · exact g1 _ _ (rv_i ⟨g4, N', g2, g3, g5⟩)
  · exact g1 _ _ ⟨rfl, g2, g3⟩
/-- for all of Q's memories at once -/
theorem rows_2 [Inhabited fz_] (h : CR 0 M N a) (hS : SGP M N) (h79 : M 0 79 = 0) : Tr_ wd0 pg0 12 77 [.inr (.inr 0)] M (rv_ fun M' => XTd M M' ∧ ∀ b N, CR b M N a → SGP M N → ∃ N', QL N N' ∧ RWR b M N a M' N' ∧ QTd N N') (fun r M' => r = 7 ∧ XTd M M' ∧ ∃ N', QEc N N' ∧ FQc M' N' ∧ QTd N N') := by
  have c := Tr_cj (w := wd0) (P := pg0) 12 {q : Int × mm_ // CR q.1 M q.2 a ∧ SGP M q.2} ⟨(0, N), h, hS⟩ 77 [.inr (.inr 0)] M (fun q => rv_ fun M' => XTd M M' ∧ ∃ N', QL q.1.2 N' ∧ RWR q.1.1 M q.1.2 a M' N' ∧ QTd q.1.2 N') (fun q r M' => r = 7 ∧ XTd M M' ∧ (q.1.1 = 0 → ∃ N', QEc q.1.2 N' ∧ FQc M' N' ∧ QTd q.1.2 N')) (fun q => JOd_t (rows_n 3 M q.1.2 a q.2.1 q.2.2 (by rw [h79]; rfl)))
  refine Tr_m c (fun vs M' z => ?_) (fun r M' z => ?_)
  · refine ⟨(z ⟨(0, N), h, hS⟩).1, (z ⟨(0, N), h, hS⟩).2.1, fun b N' h' hS' => (z ⟨(b, N'), h', hS'⟩).2.2⟩
  · have y := z ⟨(0, N), h, hS⟩
    exact ⟨y.1, y.2.1, y.2.2 rfl⟩
/-- X's way through the text -/
def XSQ (M : mm_) (T : qt_) (K : mm_ → Prop) : Prop := Tr_ wd0 pg0 12 73 [.inr (.inr 0), .inl 44] M (rv_ fun M2 => Tr_ wd0 pg0 12 76 [.inr (.inr 0), .inl 59] M2 (rv_ fun M3 => Tr_ wd0 pg0 12 77 [.inr (.inr 0)] M3 (rv_ fun M4 => Tr_ wd0 pg0 12 74 [.inr (.inr 0), .inl 102] M4 (ri_ fun v1 M5 => (if v1 = 0 then Tr_ wd0 pg0 12 75 [.inr (.inr 0), .inl 1, .inl (M5 0 75)] M5 (rf_r fun v3 M7 => (if v3 = 1999 then False else T v3 M7)) T else K M5)) T) T) T) T
/-- Q's way through it -/
def QSQ (N N' : mm_) : Prop := ∀ (V : vv_) (Qr : qr_) (Qt : qt_), Cl_ wd0 (Tr_ wd0 pg0 5) V Qr Qt m_398 → Wk_ V → Qr [] N' → Tr_ wd0 pg0 5 250 [.inr (.inr 6), .inl 44] N (rv_ fun M1 => Tr_ wd0 pg0 5 244 [.inr (.inr 6), .inl 59] M1 (rv_ fun M2 => V 42 [rr 6] [] M2) Qt) Qt
theorem q_last [Inhabited fz_] (h : CR b M N a) (hk : M 75 a = 102) (hw : M 0 79 = 0) : QEc N N := fun V Qr Qt hV hW g => by
  have e := h.2.1.2.2.2
  refine b_398_42 (Tr_mono _) hV hW _ (Ex_le (d := 1) (by decide) (c_227 h.1) _ _ (ri_i ?_))
  rw [if_pos rfl]
  refine ⟨(CB_k h.1).2.2, ?_⟩
  rw [if_pos ((kq_0c h.1).2 hk)]
  refine Ex_le (d := 1) (by decide) (c_227 h.1) _ _ (ri_i ?_)
  rw [if_pos rfl, if_pos (by omega)]
  exact g
theorem ch_text [Inhabited fz_] (h : CR 0 M N 0) (hS : SGP M N) (h79 : M 0 79 = 0) {T : qt_} {K : mm_ → Prop}
    (hK : ∀ M', XTd M M' → (∀ b N, CR b M N 0 → SGP M N → ∃ N' a', QSQ N N' ∧ CR b M' N' a' ∧ QTd N N') → K M')
    (hT : ∀ M', XTd M M' → (∃ N', QSQ N N' ∧ FQc M' N' ∧ QTd N N') → T 7 M') : XSQ M T K := by
  have ha := CB_a h.1
  have e := h.1.2.2.1.1
  rcases Bd_or h.1 44 with ⟨k1, a1⟩ | ⟨f, hf⟩
  · have nk := nk_of k1 (by decide) (by decide)
    have nx1 : ∀ b N, CR b M N 0 → CR b (up_ M 0 75 (0 + 1)) (nx_ N) (0 + 1) := fun b N h => CR_nx h nk.1 nk.2 a1
    have x1 := x_73 ha e k1 a1
    have sx1 : xsm M (up_ M 0 75 (0 + 1)) := xsm_nx
    generalize up_ M 0 75 (0 + 1) = M1 at *
    have h1 := nx1 0 N h
    have fx1 := XTd_c (xsm_XT sx1)
    have ha1 := CB_a h1.1
    have e1 := h1.1.2.2.1.1
    rcases Bd_or h1.1 259 with ⟨k2, a2⟩ | ⟨f, hf⟩
    · have nk2 := nk_of k2 (by decide) (by decide)
      have nx2 : ∀ b N, CR b M1 N (0 + 1) → CR b (up_ M1 0 75 (0 + 1 + 1)) (nx_ N) (0 + 1 + 1) := fun b N h => CR_nx h nk2.1 nk2.2 a2
      have x2 := x_76 (c := 59) ha1 e1 (by decide) k2 a2
      have sx2 : xsm M1 (up_ M1 0 75 (0 + 1 + 1)) := xsm_nx
      generalize up_ M1 0 75 (0 + 1 + 1) = M2 at *
      have fx2 := XTd_tr fx1 (XTd_c (xsm_XT sx2))
      have q12 : ∀ b N, CR b M N 0 → ∀ N', QEc (nx_ (nx_ N)) N' → QSQ N N' := fun b N h N' g V Qr Qt hV hW z => Ex_le (d := 3) (by decide) (c_250 h.1 (w := 44) (by decide) k1 a1) _ _ (rv_i (Ex_le (d := 3) (by decide) (c_244 (nx1 b N h).1 (x := 59) (by decide) k2 a2) _ _ (rv_i (g V Qr Qt hV hW z))))
      have fq : ∀ N, QTd N (nx_ (nx_ N)) := fun N => QTd_tr (QTd_c (qsm_QT qsm_nx)) (QTd_c (qsm_QT qsm_nx))
      have h792 : M2 0 79 = 0 := by rw [sx2.2.1 79 (by decide), sx1.2.1 79 (by decide)]; exact h79
      refine Ex_le (d := 2) (by decide) x1 _ _ (rv_i (Ex_le (d := 3) (by decide) x2 _ _ (rv_i (Tr_m (rows_2 (nx2 0 _ h1) (SGP_d hS fx2 (fq N)) h792) (fun vs M3 z => ?_) (fun r M3 z => ?_)))))
      · obtain ⟨z0, z1, z2⟩ := z
        refine ⟨z0, ?_⟩
        obtain ⟨N3, g1, ⟨a3, g2, h3, ns3, kp3⟩, g3⟩ := z2 0 _ (nx2 0 _ h1) (SGP_d hS fx2 (fq N))
        have ha3 := CB_a h3.1
        have e3 := h3.1.2.2.1.1
        have w3 : M3 0 79 = 0 := by rw [kp3.1.2]; exact h792
        by_cases c : M3 75 a3 = 102
        · refine Ex_le (d := 1) (by decide) (x_74t ha3 e3 c) _ _ (ri_i ?_)
          rw [if_neg (by decide)]
          refine hK M3 (XTd_tr fx2 z1) fun b N' hb hSb => ?_
          obtain ⟨N4, y1, ⟨a4, y2, h4, ns4, kp4⟩, y3⟩ := z2 b _ (nx2 b _ (nx1 b _ hb)) (SGP_d hSb fx2 (fq N'))
          have e43 : a4 = a3 := by rw [← h4.1.2.2.1.1, ← e3]
          subst e43
          exact ⟨N4, a4, q12 b N' hb N4 (QL_E y1 (q_last h4 c w3)), h4, QTd_tr (fq N') y3⟩
        · refine Ex_le (d := 1) (by decide) (x_74f ha3 e3 c) _ _ (ri_i ?_)
          rw [if_pos rfl, e3]
          refine Ex_le (d := 1) (by decide) (x_75c ha3) _ _ (rf_i ?_)
          rw [if_neg (by decide)]
          refine hT _ (XTd_bd (XTd_tr fx2 z1)) ⟨bf_ N3 1 (M3 76 a3), q12 0 N h _ (QL_E g1 (q_wr h3 rfl ns3 (.inr c) (fun _ z => by omega) (fun _ z => by omega))), FQc_b (CB_16 h3.1 rfl) (by decide), QTd_bf (QTd_tr (fq N) g3)⟩
      · obtain ⟨rfl, z1, N3, g1, g2, g3⟩ := z
        exact hT M3 (XTd_tr fx2 z1) ⟨N3, q12 0 N h _ g1, g2, QTd_tr (fq N) g3⟩
    · refine Ex_le (d := 2) (by decide) x1 _ _ (rv_i (Th_le (d := 3) (by decide) (x_76b (c := 59) ha1 e1 (by decide) hf) _ _ (hT _ (XTd_bd fx1) ?_)))
      have sp := sp_b (p := M1 76 (0 + 1)) (CB_16 h1.1 rfl) (Bd_f hf)
      exact ⟨bf_ (nx_ N) f (M1 76 (0 + 1)), fun V Qr Qt hV hW z => Ex_le (d := 3) (by decide) (c_250 h.1 (w := 44) (by decide) k1 a1) _ _ (rv_i (Ex_le (d := 3) (by decide) (c_244b h1.1 rfl (x := 59) (by decide) hf) _ _ (rv_i (QEc_s sp V Qr Qt hV hW z)))), FQc_b (CB_16 h1.1 rfl) (Bd_f hf), QTd_bf (QTd_c (qsm_QT qsm_nx))⟩
  · refine Th_le (d := 2) (by decide) (x_73b ha e hf) _ _ (hT _ (XTd_bd XTd_rf) ?_)
    have sp := sp_b (p := M 76 0) (CB_16 h.1 rfl) (Bd_f hf)
    exact ⟨bf_ N f (M 76 0), fun V Qr Qt hV hW z => Ex_le (d := 3) (by decide) (c_250b h.1 rfl (w := 44) (by decide) hf) _ _ (rv_i (Ex_le (d := 3) (by decide) (s_244 sp) _ _ (rv_i (QEc_s sp V Qr Qt hV hW z)))), FQc_b (CB_16 h.1 rfl) (Bd_f hf), QTd_bf QTd_rf⟩
end TXa
end T435_tx
section T436_cj
/-! charts: what is chosen, what is named, the next event (X 87, 91, 90, 88, 89 | Q 408, 411, 410, 409) -/
def EVT (M N : mm_) : Prop := (M 0 35 = (N 6 143 + N 6 142) % 500 ∧ M 0 36 = N 6 142 ∧ (0 ≤ N 6 142 ∧ N 6 142 ≤ 500) ∧ (0 ≤ N 6 143 ∧ N 6 143 < 500)) ∧ ∀ i, 0 ≤ i → i < 2000 → M 23 i = N 240 i
def SDJ (M : mm_) (u v : Int) : Prop := (u = -2 ∧ v = -1) ∨ (u = v ∧ 0 ≤ u ∧ u < M 0 77)
def LJ9 (M N : mm_) (l : Int) : Prop := SDJ M (M 46 l) (N 256 l) ∧ SDJ M (M 47 l) (N 257 l) ∧ M 48 l = N 258 l ∧ (0 ≤ N 259 l ∧ N 259 l ≤ 3) ∧ M 49 l = lvL N l (N 259 l) ∧ M 50 l = rwL N l (N 259 l) ∧ ∀ j, 0 ≤ j → j < N 259 l → (0 ≤ N 260 (3 * l + j) ∧ N 260 (3 * l + j) < M 0 78) ∧ M 52 (N 260 (3 * l + j)) = lvL N l j ∧ M 53 (N 260 (3 * l + j)) = rwL N l j
def CHS (M N : mm_) : Prop := (N 6 170 = M 0 77 ∧ 0 ≤ M 0 77 ∧ M 0 77 ≤ 8) ∧ (N 6 171 = M 0 76 ∧ 0 ≤ M 0 76 ∧ M 0 76 ≤ 40) ∧ (N 6 172 = M 0 78 ∧ 0 ≤ M 0 78 ∧ M 0 78 ≤ 6) ∧ (∀ k, 0 ≤ k → k < M 0 77 → N 255 k = M 45 k) ∧ (∀ l, 0 ≤ l → l < M 0 76 → LJ9 M N l) ∧ (∀ k, 0 ≤ k → k < M 0 78 → M 51 k = N 262 k ∧ 1 ≤ M 51 k ∧ M 51 k ≤ 4) ∧ EVT M N
def CHO (M N : mm_) : Prop := ∀ k, 0 ≤ k → k < M 0 78 → M 54 k = N 265 k ∧ 0 ≤ M 54 k ∧ M 54 k < M 51 k
def XJ (M M' : mm_) : Prop := (∀ r, r ∉ [0, 54] → M' r = M r) ∧ ∀ i, i ≠ 98 → M' 0 i = M 0 i
def QJ (N N' : mm_) : Prop := (∀ r, r ∉ [6, 265] → N' r = N r) ∧ ∀ i, i ∉ [188, 189] → N' 6 i = N 6 i
def X98 (M M' : mm_) : Prop := (∀ r, r ≠ 0 → M' r = M r) ∧ ∀ i, i ≠ 98 → M' 0 i = M 0 i
def Q189 (N N' : mm_) : Prop := (∀ r, r ≠ 6 → N' r = N r) ∧ ∀ i, i ≠ 189 → N' 6 i = N 6 i
def evp (N : mm_) (i : Int) : Int := 4 * ((N 6 143 + i) % 500)
section CJa
variable {M N M' N' M1 N1 M2 N2 : mm_} {a k f t x c w p i u v s l o m A W x1 x2 x3 : Int}
theorem X98_rf [Inhabited fz_] : X98 M M := ⟨fun _ _ => rfl, fun _ _ => rfl⟩
theorem Q189_rf [Inhabited fz_] : Q189 N N := ⟨fun _ _ => rfl, fun _ _ => rfl⟩
theorem X98_tr [Inhabited fz_] (h : X98 M M1) (g : X98 M1 M2) : X98 M M2 := ⟨fun r hr => by rw [g.1 r hr, h.1 r hr], fun i hi => by rw [g.2 i hi, h.2 i hi]⟩
theorem Q189_tr [Inhabited fz_] (h : Q189 N N1) (g : Q189 N1 N2) : Q189 N N2 := ⟨fun r hr => by rw [g.1 r hr, h.1 r hr], fun i hi => by rw [g.2 i hi, h.2 i hi]⟩
theorem X98_u [Inhabited fz_] : X98 M (up_ M 0 98 v) := ⟨fun r hr => up_ne hr, fun i hi => upo hi⟩
theorem Q189_u [Inhabited fz_] : Q189 N (up_ N 6 189 v) := ⟨fun r hr => up_ne hr, fun i hi => upo hi⟩
theorem X98_J [Inhabited fz_] (h : X98 M M') : XJ M M' := ⟨fun r hr => h.1 r (by rintro rfl; exact hr (by decide)), h.2⟩
theorem Q189_J [Inhabited fz_] (h : Q189 N N') : QJ N N' := ⟨fun r hr => h.1 r (by rintro rfl; exact hr (by decide)), fun i hi => h.2 i (by rintro rfl; exact hi (by decide))⟩
theorem XJ_rf [Inhabited fz_] : XJ M M := ⟨fun _ _ => rfl, fun _ _ => rfl⟩
theorem QJ_rf [Inhabited fz_] : QJ N N := ⟨fun _ _ => rfl, fun _ _ => rfl⟩
theorem XJ_tr [Inhabited fz_] (h : XJ M M1) (g : XJ M1 M2) : XJ M M2 := ⟨fun r hr => by rw [g.1 r hr, h.1 r hr], fun i hi => by rw [g.2 i hi, h.2 i hi]⟩
theorem QJ_tr [Inhabited fz_] (h : QJ N N1) (g : QJ N1 N2) : QJ N N2 := ⟨fun r hr => by rw [g.1 r hr, h.1 r hr], fun i hi => by rw [g.2 i hi, h.2 i hi]⟩
theorem CHS_c [Inhabited fz_] (h : CHS M N) (hx : XJ M M') (hq : QJ N N') : CHS M' N' := by
  unfold CHS LJ9 SDJ EVT lvL rwL at *
  rw [hx.2 77 (by decide), hx.2 76 (by decide), hx.2 78 (by decide), hx.2 35 (by decide), hx.2 36 (by decide), hx.1 45 (by decide), hx.1 46 (by decide), hx.1 47 (by decide), hx.1 48 (by decide), hx.1 49 (by decide), hx.1 50 (by decide), hx.1 51 (by decide), hx.1 52 (by decide), hx.1 53 (by decide), hx.1 23 (by decide), hq.2 170 (by decide), hq.2 171 (by decide), hq.2 172 (by decide), hq.2 142 (by decide), hq.2 143 (by decide), hq.1 255 (by decide), hq.1 256 (by decide), hq.1 257 (by decide), hq.1 258 (by decide), hq.1 259 (by decide), hq.1 260 (by decide), hq.1 261 (by decide), hq.1 262 (by decide), hq.1 240 (by decide)]
  exact h
theorem CHO_c [Inhabited fz_] (h : CHO M N) (hx : X98 M M') (hq : ∀ r, r ≠ 6 → N' r = N r) : CHO M' N' := by
  unfold CHO at *
  rw [hx.2 78 (by decide), hx.1 54 (by decide), hx.1 51 (by decide), hq 265 (by decide)]
  exact h
/-- a truth as a number -/
theorem bit9 [Inhabited fz_] (c : Prop) : ∃ u : Int, BV u ∧ (u = 1 ↔ c) := by
  by_cases h : c
  · exact ⟨1, .inr rfl, ⟨fun _ => h, fun _ => rfl⟩⟩
  · exact ⟨0, .inl rfl, ⟨fun e => absurd e (by decide), fun e => absurd e h⟩⟩
/-- whether a line is chosen -/
theorem j_87 [Inhabited fz_] (h : CHS M N) (hC : CHO M N) (hl : 0 ≤ l ∧ l < M 0 76) : ∃ v, BV v ∧ Ex_ 1 87 [.inr (.inr 0), .inl (M 49 l), .inl (M 50 l)] M [.inl v] M ∧ Ex_ 1 408 [.inr (.inr 6), .inl l] N [.inl v] N := by
  obtain ⟨_, n1, n2, _, n4, _⟩ := h
  obtain ⟨_, _, _, ⟨d0, d3⟩, l1, l2, l3⟩ := n4 l hl.1 hl.2
  obtain ⟨v, hv, iff⟩ := bit9 (∀ j, 0 ≤ j → j < N 259 l → M 54 (N 260 (3 * l + j)) = N 261 (3 * l + j))
  have l40 : 0 ≤ l ∧ l < 40 := by omega
  have w3 : w32 (3 * l) = 3 * l := w32_id (by omega) (by omega)
  refine ⟨v, hv, ?_, ?_⟩
  · -- X goes up
    have key : ∀ (n : Nat) (j : Int), j = n → j ≤ N 259 l → (∀ i, j ≤ i → i < N 259 l → M 54 (N 260 (3 * l + i)) = N 261 (3 * l + i)) → ∀ (V : vv_) (Qr : qr_) (Qt : qt_), Cl_ wd0 (Tr_ wd0 pg0 0) V Qr Qt m_87 → Wk_ V → Qr [.inl v] M → V 5 [rr 0, ii (M 49 l), ii (M 50 l), ii (lvL N l j), ii (rwL N l j)] [] M := by
      intro n
      induction n with
      | zero =>
        intro j hj _ hs V Qr Qt hV hW g
        have j0 : j = 0 := by omega
        subst j0
        refine b_87_5 (Tr_mono _) hV hW _ _ _ _ _ ?_
        rw [if_pos (by unfold lvL; rw [if_pos rfl])]
        have : v = 1 := iff.2 fun i i0 i1 => hs i (by omega) i1
        rw [this] at g
        exact ⟨.inr rfl, g⟩
      | succ n ih =>
        intro j hj jd hs V Qr Qt hV hW g
        have e1 : lvL N l j = N 260 (3 * l + (j - 1)) := by unfold lvL; rw [if_neg (by omega)]
        have e2 : rwL N l j = N 261 (3 * l + (j - 1)) := by unfold rwL; rw [if_neg (by omega)]
        have r := l3 (j - 1) (by omega) (by (clear hC hl n1 n2 n4 d0 d3 l1 l2 l3 hv iff l40 w3 ih hs hV hW g e1 e2; omega))
        refine b_87_5 (Tr_mono _) hV hW _ _ _ _ _ ?_
        rw [e1, e2, if_neg (by omega)]
        refine ⟨by (clear hC hl n1 n4 d0 d3 l1 l2 l3 hv iff l40 w3 ih hj jd hs hV hW g e1 e2; omega), ?_⟩
        by_cases c : M 54 (N 260 (3 * l + (j - 1))) = N 261 (3 * l + (j - 1))
        · rw [if_pos c, r.2.1, r.2.2]
          refine ⟨by omega, by omega, ih (j - 1) (by (clear hC hl n1 n2 n4 d0 d3 l1 l2 l3 hv iff l40 w3 ih jd hs hV hW g e1 e2 r c; omega)) (by (clear hC hl n1 n2 n4 d0 d3 l1 l2 l3 hv iff l40 w3 ih hs hV hW g e1 e2 r c; omega)) (fun i i0 i1 => ?_) V Qr Qt hV hW g⟩
          by_cases e : i = j - 1
          · subst e; exact c
          · exact hs i (by (clear hC hl n1 n2 n4 d0 d3 l1 l2 l3 hv iff l40 w3 ih jd hs hV hW g e1 e2 r c i1; omega)) i1
        · rw [if_neg c]
          have : v = 0 := hv.resolve_right fun z => c (iff.1 z (j - 1) (by (clear hC hl n1 n2 n4 d0 d3 l1 l2 l3 hv iff l40 w3 ih jd hs hV hW g e1 e2 r c z; omega)) (by (clear hC hl n1 n2 n4 d0 d3 l1 l2 l3 hv iff l40 w3 ih hs hV hW g e1 e2 r c z; omega)))
          rw [this] at g
          exact ⟨.inl rfl, g⟩
    intro Qr Qt g
    refine t_87 fun V hV hW => b_87_0 (Tr_mono _) hV hW _ _ _ ?_
    have := key (N 259 l).toNat (N 259 l) (by (clear hC hl n1 n2 n4 l1 l2 l3 hv iff l40 w3 key g hV hW; omega)) (Int.le_refl _) (fun i i0 i1 => by (clear hC hl n1 n2 n4 d0 d3 l1 l2 l3 hv iff l40 w3 key g hV hW; omega)) V Qr Qt hV hW g
    rw [← l1, ← l2] at this
    exact this
  · have key : ∀ (n : Nat) (j : Int) (y : Int), N 259 l - j = n → 0 ≤ j → j ≤ N 259 l → BV y → (y = 1 ↔ ∀ i, 0 ≤ i → i < j → M 54 (N 260 (3 * l + i)) = N 261 (3 * l + i)) → ∀ (V : vv_) (Qr : qr_) (Qt : qt_), Cl_ wd0 (Tr_ wd0 pg0 0) V Qr Qt m_408 → Wk_ V → Qr [.inl v] N → V 4 [rr 6, ii l, ii y, ii j] [] N := by
      intro n
      induction n with
      | zero =>
        intro j y hj j0 jd hy hi V Qr Qt hV hW g
        refine b_408_4 (Tr_mono _) hV hW _ _ _ _ ⟨l40, ?_⟩
        have : j = N 259 l := by (clear hC hl n1 n2 n4 d0 d3 l1 l2 l3 hv iff l40 w3 j0 jd hy hi hV hW g; omega)
        subst this
        have : y = v := bv_eq hy hv hi iff
        rw [if_neg (by (clear hC hl n1 n2 n4 d0 d3 l1 l2 l3 hv iff l40 w3 hy hV hW g hj j0 jd hi this; omega)), this]
        exact ⟨hv, g⟩
      | succ n ih =>
        intro j y hj j0 jd hy hi V Qr Qt hV hW g
        have r := l3 j j0 (by (clear hC hl n1 n2 n4 d0 d3 l1 l2 l3 hv iff l40 w3 ih j0 jd hy hi hV hW g; omega))
        refine b_408_4 (Tr_mono _) hV hW _ _ _ _ ⟨l40, ?_⟩
        rw [if_pos (by omega), w3, w32_id (x := 3 * l + j) (by (clear hC n1 n2 n4 d0 d3 l1 l2 l3 hv iff w3 ih hj jd hy hi hV hW g r; omega)) (by (clear hC n1 n2 n4 l1 l2 l3 hv iff w3 ih j0 jd hy hi hV hW g r; omega)), w32_id (x := j + 1) (by (clear hC hl n1 n2 n4 d0 d3 l1 l2 l3 hv iff l40 w3 ih hj jd hy hi hV hW g r; omega)) (by (clear hC hl n1 n2 n4 l1 l2 l3 hv iff l40 w3 ih j0 jd hy hi hV hW g r; omega))]
        by_cases cy : y = 0
        · rw [if_pos cy]
          refine ih (j + 1) 0 (by (clear hC hl n1 n2 n4 d0 d3 l1 l2 l3 hv iff l40 w3 ih j0 jd hy hi hV hW g r cy; omega)) (by (clear hC hl n1 n2 n4 d0 d3 l1 l2 l3 hv iff l40 w3 ih hj jd hy hi hV hW g r cy; omega)) (by (clear hC hl n1 n2 n4 d0 d3 l1 l2 l3 hv iff l40 w3 ih j0 jd hy hi hV hW g r cy; omega)) (.inl rfl) ⟨fun z => absurd z (by decide), fun z => ?_⟩ V Qr Qt hV hW g
          have := hi.2 fun i i0 i1 => z i i0 (by (clear hC hl n1 n2 n4 d0 d3 l1 l2 l3 hv iff l40 w3 ih hj j0 jd hy hi hV hW g r cy z i0; omega))
          omega
        · have y1 := hi.1 (hy.resolve_left cy)
          have e := (hC (N 260 (3 * l + j)) r.1.1 r.1.2).1
          rw [if_neg cy, ← e]
          refine ⟨by (clear hC n1 n2 n4 l1 l2 l3 hv iff w3 ih jd hy hi hV hW g r cy y1 e; omega), by (clear hC hl n1 n4 d0 d3 l1 l2 l3 hv iff l40 w3 ih hj j0 jd hy hi hV hW g cy y1 e; omega), by omega, ?_⟩
          by_cases c : M 54 (N 260 (3 * l + j)) = N 261 (3 * l + j)
          · rw [if_pos c]
            refine ih (j + 1) 1 (by (clear hC hl n1 n2 n4 d0 d3 l1 l2 l3 hv iff l40 w3 ih j0 jd hy hi hV hW g r cy y1 e c; omega)) (by (clear hC hl n1 n2 n4 d0 d3 l1 l2 l3 hv iff l40 w3 ih hj jd hy hi hV hW g r cy y1 e c; omega)) (by (clear hC hl n1 n2 n4 d0 d3 l1 l2 l3 hv iff l40 w3 ih j0 jd hy hi hV hW g r cy y1 e c; omega)) (.inr rfl) ⟨fun _ i i0 i1 => ?_, fun _ => rfl⟩ V Qr Qt hV hW g
            by_cases ei : i = j
            · subst ei; exact c
            · exact y1 i i0 (by (clear hC hl n1 n2 n4 d0 d3 l1 l2 l3 hv iff l40 w3 ih hj j0 jd hy hi hV hW g r cy y1 e c i0; omega))
          · rw [if_neg c]
            exact ih (j + 1) 0 (by omega) (by omega) (by omega) (.inl rfl) ⟨fun z => absurd z (by decide), fun z => absurd (z j j0 (by omega)) c⟩ V Qr Qt hV hW g
    exact fun Qr Qt g => t_408 fun V hV hW => b_408_0 (Tr_mono _) hV hW _ _ (key (N 259 l).toNat 0 1 (by omega) (by omega) (by omega) (.inr rfl) ⟨fun _ i i0 i1 => by omega, fun _ => rfl⟩ V Qr Qt hV hW g)
/-- whether a signal is named -/
theorem j_91 [Inhabited fz_] (h : CHS M N) : ∃ v, BV v ∧ Ex_ 1 91 [.inr (.inr 0), .inl s] M [.inl v] M ∧ Ex_ 1 411 [.inr (.inr 6), .inl s] N [.inl v] N := by
  obtain ⟨_, n1, n2, _, n4, _⟩ := h
  obtain ⟨v, hv, iff⟩ := bit9 (∃ l, (0 ≤ l ∧ l < M 0 76) ∧ M 48 l = s)
  refine ⟨v, hv, ?_, ?_⟩
  · have key : ∀ (n : Nat) (j : Int), M 0 76 - j = n → 0 ≤ j → (∀ i, 0 ≤ i → i < j → M 48 i ≠ s) → ∀ (V : vv_) (Qr : qr_) (Qt : qt_), Cl_ wd0 (Tr_ wd0 pg0 0) V Qr Qt m_91 → Wk_ V → Qr [.inl v] M → V 2 [rr 0, ii s, ii j] [] M := by
      intro n
      induction n with
      | zero =>
        intro j hj j0 hs V Qr Qt hV hW g
        refine b_91_2 (Tr_mono _) hV hW _ _ _ ?_
        have : v = 0 := hv.resolve_right fun z => by
          obtain ⟨l, hl, e⟩ := iff.1 z
          exact hs l hl.1 (by omega) e
        rw [if_neg (by omega)]; rw [this] at g
        exact ⟨.inl rfl, g⟩
      | succ n ih =>
        intro j hj j0 hs V Qr Qt hV hW g
        refine b_91_2 (Tr_mono _) hV hW _ _ _ ?_
        rw [if_pos (by omega), w32_id (by omega) (by omega)]
        refine ⟨by omega, ?_⟩
        by_cases c : M 48 j = s
        · rw [if_pos c]
          have : v = 1 := iff.2 ⟨j, by omega, c⟩
          rw [this] at g
          exact ⟨.inr rfl, g⟩
        · rw [if_neg c]
          refine ih (j + 1) (by (clear n1 n2 n4 hv iff ih j0 hs hV hW g c; omega)) (by omega) (fun i i0 i1 => ?_) V Qr Qt hV hW g
          by_cases e : i = j
          · subst e; exact c
          · exact hs i i0 (by omega)
    exact fun Qr Qt g => t_91 fun V hV hW => b_91_0 (Tr_mono _) hV hW _ _ (key (M 0 76).toNat 0 (by omega) (by omega) (fun i i0 i1 => by omega) V Qr Qt hV hW g)
  · have key : ∀ (n : Nat) (j : Int) (y : Int), M 0 76 - j = n → 0 ≤ j → j ≤ M 0 76 → BV y → (y = 1 ↔ ∃ l, (0 ≤ l ∧ l < j) ∧ M 48 l = s) → ∀ (V : vv_) (Qr : qr_) (Qt : qt_), Cl_ wd0 (Tr_ wd0 pg0 0) V Qr Qt m_411 → Wk_ V → Qr [.inl v] N → V 4 [rr 6, ii s, ii y, ii j] [] N := by
      intro n
      induction n with
      | zero =>
        intro j y hj j0 jd hy hi V Qr Qt hV hW g
        refine b_411_4 (Tr_mono _) hV hW _ _ _ _ ?_
        have e : j = M 0 76 := by omega
        subst e
        have : y = v := bv_eq hy hv hi iff
        rw [if_neg (by omega), this]
        exact ⟨hv, g⟩
      | succ n ih =>
        intro j y hj j0 jd hy hi V Qr Qt hV hW g
        refine b_411_4 (Tr_mono _) hV hW _ _ _ _ ?_
        rw [if_pos (by omega), w32_id (by omega) (by omega)]
        by_cases cy : y = 0
        · rw [if_pos cy, ← (n4 j j0 (by (clear n1 n2 n4 hv iff ih j0 jd hy hi hV hW g cy; omega))).2.2.1]
          refine ⟨by (clear n2 n4 hv iff ih jd hy hi hV hW g cy; omega), ?_⟩
          by_cases c : M 48 j = s
          · rw [if_pos c]
            exact ih (j + 1) 1 (by (clear n1 n2 n4 hv iff ih j0 jd hy hi hV hW g cy c; omega)) (by omega) (by omega) (.inr rfl) ⟨fun _ => ⟨j, by omega, c⟩, fun _ => rfl⟩ V Qr Qt hV hW g
          · rw [if_neg c]
            refine ih (j + 1) 0 (by (clear n1 n2 n4 hv iff ih j0 jd hy hi hV hW g cy c; omega)) (by omega) (by omega) (.inl rfl) ⟨fun z => absurd z (by decide), fun ⟨l, hl, e⟩ => ?_⟩ V Qr Qt hV hW g
            by_cases ej : l = j
            · subst ej; exact absurd e c
            · have := hi.2 ⟨l, by omega, e⟩; (clear n1 n2 n4 hv iff ih hj j0 jd hy hi hV hW g c hl e ej; omega)
        · rw [if_neg cy]
          obtain ⟨l, hl, e⟩ := hi.1 (hy.resolve_left cy)
          exact ih (j + 1) 1 (by (clear n1 n2 n4 hv iff ih j0 jd hy hi hV hW g cy hl e; omega)) (by omega) (by omega) (.inr rfl) ⟨fun _ => ⟨l, by omega, e⟩, fun _ => rfl⟩ V Qr Qt hV hW g
    exact fun Qr Qt g => t_411 fun V hV hW => b_411_0 (Tr_mono _) hV hW _ _ (key (M 0 76).toNat 0 0 (by omega) (by omega) (by omega) (.inl rfl) ⟨fun z => absurd z (by decide), fun ⟨l, hl, _⟩ => by omega⟩ V Qr Qt hV hW g)
end CJa
end T436_cj
section T437_cj
/-! charts: whether an inst follows (X 86, 89, 90 | Q 407, 409, 410) -/
section CJb
variable {M N M' N' M1 N1 M2 N2 : mm_} {a k f t x c w p i u v s l o m A W x1 x2 x3 : Int}
theorem x_69e [Inhabited fz_] (h : EVT M N) (hi : 0 ≤ i ∧ i < N 6 142) : Ex_ 1 69 [.inr (.inr 0), .inl i] M [.inl (evp N i)] M := by
  obtain ⟨⟨h1, h2, h3, h4⟩, _⟩ := h
  have := x_69 (M := M) (x1 := i) (by (clear hi h3 h4; omega)) (by (clear hi h4; omega)) (by omega)
  have e : 4 * ((M 0 35 + 500 - M 0 36 + i) % 500) = evp N i := by unfold evp; (clear hi h3 h4 this; lia)
  rw [e] at this; exact this
theorem evp_w [Inhabited fz_] (h : EVT M N) (hi : 0 ≤ i ∧ i < N 6 142) : w32 (4 * (Int.tmod (w32 (N 6 143 + i)) 500)) = evp N i ∧ 0 ≤ evp N i ∧ evp N i + 3 < 2000 := by
  obtain ⟨⟨h1, h2, h3, h4⟩, _⟩ := h
  have e : w32 (N 6 143 + i) = N 6 143 + i := w32_id (by (clear h1 h2 h3; omega)) (by omega)
  rw [e, Int.tmod_eq_emod_of_nonneg (by (clear h1 h2 h3; omega))]
  unfold evp
  exact ⟨w32_id (by (clear hi h1 h2 h3 h4; omega)) (by (clear hi h1 h2 h3 h4; omega)), by (clear hi h1 h2 h3 h4; omega), by (clear hi h1 h2 h3 h4; omega)⟩
/-- the next event that counts -/
theorem j_90 [Inhabited fz_] (hw : 0 ≤ w) {x2 : Int} : ∀ (n : Nat) (i : Int) (M : mm_), N 6 142 - i = n → 0 ≤ i → M 0 98 = i → CHS M N → w < M 0 77 → ∃ k M', (k = -1 ∨ (0 ≤ k ∧ k < N 6 142)) ∧ X98 M M' ∧ (k ≠ -1 → M' 0 98 = k + 1) ∧ (∀ (V : vv_) (Qr : qr_) (Qt : qt_), Cl_ wd0 (Tr_ wd0 pg0 1) V Qr Qt m_90 → Wk_ V → Qr [.inl (if k = -1 then -1 else evp N k)] M' → V 0 [rr 0, ii (M 45 w), none] [] M) ∧ (∀ (V : vv_) (Qr : qr_) (Qt : qt_), Cl_ wd0 (Tr_ wd0 pg0 1) V Qr Qt m_410 → Wk_ V → Qr [.inl k] N → V 2 [rr 6, ii w, ii x2, ii i, none] [] N) := by
  intro n
  induction n with
  | zero =>
    intro i M hi i0 e98 h wI
    have hE := h.2.2.2.2.2.2
    refine ⟨-1, M, .inl rfl, X98_rf, fun z => absurd rfl z, fun V Qr Qt hV hW g => b_90_0 (Tr_mono _) hV hW _ _ ?_, fun V Qr Qt hV hW g => b_410_2 (Tr_mono _) hV hW _ _ _ _ ?_⟩
    · rw [if_neg (by have := hE.1.2.1; omega)]; rw [if_pos rfl] at g; exact g
    · rw [if_neg (by omega)]; exact g
  | succ n ih =>
    intro i M hi i0 e98 h wI
    have hE := h.2.2.2.2.2.2
    have n142 := hE.1.2.2.1
    have x69 := x_69e hE (i := i) (by (clear hw ih h wI hE n142; omega))
    obtain ⟨ep, ep0, ep1⟩ := evp_w hE (i := i) (by omega)
    have ev : ∀ j, 0 ≤ j → j ≤ 3 → M 23 (evp N i + j) = N 240 (evp N i + j) := fun j j0 j1 => hE.2 _ (by (clear hw ih hi i0 e98 h wI hE n142 x69 ep; lia)) (by omega)
    have e0 : M 23 (evp N i) = N 240 (evp N i) := hE.2 _ (by omega) (by omega)
    have w1 : w32 (evp N i + 1) = evp N i + 1 := w32_id (by (clear hw ih hi i0 e98 h wI hE n142 x69 ep ev e0; lia)) (by omega)
    have w2 : w32 (evp N i + 2) = evp N i + 2 := w32_id (by (clear hw ih hi i0 e98 h wI hE n142 x69 ep ev e0; lia)) (by (clear hw ih hi i0 e98 h wI hE n142 x69 ep ev e0; omega))
    have wi : w32 (i + 1) = i + 1 := w32_id (by omega) (by omega)
    have hI := h.1
    have pid := h.2.2.2.1 w hw wI
    -- the rest of the events
    obtain ⟨k, M', hk, fx, fk, gx, gq⟩ := ih (i + 1) (up_ M 0 98 (i + 1)) (by omega) (by (clear hw ih hi h wI hE n142 x69 ep ep0 ep1 ev e0 w1 w2 hI pid; lia)) up_at (CHS_c h (X98_J X98_u) QJ_rf) (by rw [upo (by decide)]; exact wI)
    have e45 : (up_ M 0 98 (i + 1)) 45 = M 45 := up_ne (by decide)
    rw [e45] at gx
    have fx' : X98 M M' := X98_tr X98_u fx
    have lt : M 0 98 < M 0 36 := by have := hE.1.2.1; (clear hw ih i0 h wI hE n142 x69 ep ep0 ep1 ev e0 w1 w2 hI pid hk fx fk gx gq e45 fx'; omega)
    by_cases c1 : M 23 (evp N i) = 1 ∨ M 23 (evp N i) = 2
    · -- it is sent or taken
      have px : ∀ (V : vv_) (Qr : qr_) (Qt : qt_), Cl_ wd0 (Tr_ wd0 pg0 1) V Qr Qt m_90 → Wk_ V → V 50 [rr 0, ii (M 45 w), ii (evp N i)] [] (up_ M 0 98 (i + 1)) → V 0 [rr 0, ii (M 45 w), none] [] M := fun V Qr Qt hV hW g => b_90_0 (Tr_mono _) hV hW _ _ (by
        rw [if_pos lt, e98]
        refine x69 _ _ (ri_i ⟨by (clear hw ih hi i0 e98 h wI hE n142 x69 ep ev e0 wi hI pid hk fx fk gx gq e45 fx' lt c1 hV hW g; omega), ?_⟩)
        rw [e98, wi]
        by_cases z : M 23 (evp N i) = 1
        · rw [if_pos z]; exact g
        · rw [if_neg z, if_pos (c1.resolve_left z)]; exact ⟨by omega, g⟩)
      have pq : ∀ (V : vv_) (Qr : qr_) (Qt : qt_), Cl_ wd0 (Tr_ wd0 pg0 1) V Qr Qt m_410 → Wk_ V → V 46 [rr 6, ii w, ii x2, ii i, ii (evp N i)] [] N → V 2 [rr 6, ii w, ii x2, ii i, none] [] N := fun V Qr Qt hV hW g => b_410_2 (Tr_mono _) hV hW _ _ _ _ (by
        rw [if_pos (by omega), ep, ← e0]
        refine ⟨by decide, by omega, ?_⟩
        by_cases z : M 23 (evp N i) = 1
        · rw [if_pos z]; exact g
        · rw [if_neg z, if_pos (c1.resolve_left z)]; exact ⟨by omega, g⟩)
      by_cases c2 : M 23 (evp N i + 1) = M 45 w
      · obtain ⟨v, hv, xv', qv⟩ := j_91 (s := M 23 (evp N i + 2)) (CHS_c h (X98_J (X98_u (v := i + 1))) (QJ_rf (N := N)))
        by_cases cv : v = 0
        · refine ⟨k, M', hk, fx', fk, fun V Qr Qt hV hW g => px V Qr Qt hV hW (b_90_50 (Tr_mono _) hV hW _ _ _ ?_), fun V Qr Qt hV hW g => pq V Qr Qt hV hW (b_410_46 (Tr_mono _) hV hW _ _ _ _ _ ?_)⟩
          · rw [w1, w2, up_ne (by decide), if_pos c2]
            refine ⟨by (clear hw ih hi i0 e98 h wI hE n142 x69 ep ev e0 wi hI pid hk fx fk gx gq e45 fx' lt c1 px pq c2 hv xv' qv cv hV hW g; omega), by (clear hw ih hi i0 e98 h wI hE n142 x69 ep ev e0 wi hI pid hk fx fk gx gq e45 fx' lt c1 px pq c2 hv xv' qv cv hV hW g; omega), xv' _ _ (ri_i ?_)⟩
            rw [if_pos cv]; exact gx V Qr Qt hV hW g
          · rw [w1, w2, ← ev 1 (by omega) (by omega), ← ev 2 (by omega) (by omega), pid, if_pos c2, wi]
            refine ⟨by omega, by omega, by omega, qv _ _ (ri_i ?_)⟩
            rw [if_pos cv]; exact gq V Qr Qt hV hW g
        · refine ⟨i, up_ M 0 98 (i + 1), .inr ⟨i0, by omega⟩, X98_u, fun _ => up_at, fun V Qr Qt hV hW g => px V Qr Qt hV hW (b_90_50 (Tr_mono _) hV hW _ _ _ ?_), fun V Qr Qt hV hW g => pq V Qr Qt hV hW (b_410_46 (Tr_mono _) hV hW _ _ _ _ _ ?_)⟩
          · rw [w1, w2, up_ne (by decide), if_pos c2]
            refine ⟨by (clear hw ih hi i0 e98 h wI hE n142 x69 ep ev e0 wi hI pid hk fx fk gx gq e45 fx' lt c1 px pq c2 hv xv' qv cv hV hW g; lia), by (clear hw ih hi i0 e98 h wI hE n142 x69 ep ev e0 wi hI pid hk fx fk gx gq e45 fx' lt c1 px pq c2 hv xv' qv cv hV hW g; lia), xv' _ _ (ri_i ?_)⟩
            rw [if_neg cv]; rw [if_neg (by (clear hw ih hi h wI hE n142 x69 ep ep0 ep1 ev e0 w1 w2 hI pid hk fx fk gx gq e45 fx' lt c1 px pq c2 hv xv' qv cv hV hW g; lia))] at g; exact g
          · rw [w1, w2, ← ev 1 (by (clear hw ih hi i0 e98 h wI hE n142 x69 ep ep0 ep1 ev e0 w1 w2 wi hI pid hk fx fk gx gq e45 fx' lt c1 px pq c2 hv xv' qv cv hV hW g; lia)) (by (clear hw ih hi i0 e98 h wI hE n142 x69 ep ep0 ep1 ev e0 w1 w2 wi hI pid hk fx fk gx gq e45 fx' lt c1 px pq c2 hv xv' qv cv hV hW g; lia)), ← ev 2 (by omega) (by (clear hw ih hi i0 e98 h wI hE n142 x69 ep ep0 ep1 ev e0 w1 w2 wi hI pid hk fx fk gx gq e45 fx' lt c1 px pq c2 hv xv' qv cv hV hW g; lia)), pid, if_pos c2]
            refine ⟨by omega, by (clear ih hi i0 e98 h hE n142 x69 ep ep0 ep1 ev e0 w1 w2 wi pid hk fx fk gx gq e45 fx' lt c1 px pq c2 hv xv' qv cv hV hW g; lia), by omega, qv _ _ (ri_i ?_)⟩
            rw [if_neg cv]; exact g
      · refine ⟨k, M', hk, fx', fk, fun V Qr Qt hV hW g => px V Qr Qt hV hW (b_90_50 (Tr_mono _) hV hW _ _ _ ?_), fun V Qr Qt hV hW g => pq V Qr Qt hV hW (b_410_46 (Tr_mono _) hV hW _ _ _ _ _ ?_)⟩
        · rw [w1, up_ne (by decide), if_neg c2]; exact ⟨by omega, gx V Qr Qt hV hW g⟩
        · rw [w1, ← ev 1 (by omega) (by omega), pid, if_neg c2, wi]; exact ⟨by omega, by omega, gq V Qr Qt hV hW g⟩
    · refine ⟨k, M', hk, fx', fk, fun V Qr Qt hV hW g => b_90_0 (Tr_mono _) hV hW _ _ ?_, fun V Qr Qt hV hW g => b_410_2 (Tr_mono _) hV hW _ _ _ _ ?_⟩
      · rw [if_pos lt, e98]
        refine x69 _ _ (ri_i ⟨by omega, ?_⟩)
        rw [e98, wi, if_neg (by (clear hw ih hi i0 e98 h wI hE n142 x69 ep ep0 ep1 ev w1 w2 wi hI pid hk fx fk gx gq e45 fx' lt hV hW g; lia)), if_neg (by (clear hw ih hi i0 e98 h wI hE n142 x69 ep ep0 ep1 ev w1 w2 wi hI pid hk fx fk gx gq e45 fx' lt hV hW g; lia))]
        exact ⟨by omega, gx V Qr Qt hV hW g⟩
      · rw [if_pos (by omega), ep, ← e0, if_neg (by omega), if_neg (by omega), wi]
        exact ⟨by decide, by omega, by omega, gq V Qr Qt hV hW g⟩
end CJb
end T437_cj
section T438_cj
/-! charts: whether an inst follows, whole (X 86, 88, 89 | Q 407, 409) -/
section CJc
variable {M N M' N' M1 N1 M2 N2 : mm_} {a k f t x c w p i u v s l o m A W x1 x2 x3 κ σ ω u' : Int}
theorem j_88 [Inhabited fz_] (h : CHS M N) (hu : SDJ M u u') : ∃ ω, Ex_ 1 88 [.inr (.inr 0), .inl u] M [.inl ω] M ∧ ((u' < 0 ∧ ω = 0) ∨ ((0 ≤ u' ∧ u' < 8) ∧ ω = N 255 u')) := by
  have n1 := h.1
  rcases hu with ⟨rfl, rfl⟩ | ⟨rfl, h1, h2⟩
  · exact ⟨0, fun Qr Qt g => t_88 fun V hV hW => b_88_0 (Tr_mono _) hV hW _ _ (by rw [if_pos rfl]; exact g), .inl ⟨by decide, rfl⟩⟩
  · exact ⟨M 45 u, fun Qr Qt g => t_88 fun V hV hW => b_88_0 (Tr_mono _) hV hW _ _ (by rw [if_neg (by (clear h n1 h2 g hV hW; omega))]; exact ⟨by omega, g⟩), .inr ⟨by omega, (h.2.2.2.1 u h1 h2).symm⟩⟩
theorem j_89 [Inhabited fz_] (h : CHS M N) (hw : 0 ≤ w ∧ w < M 0 77) (e98 : M 0 98 = i) (e189 : N 6 189 = i) (hi : 0 ≤ i ∧ i ≤ N 6 142) (hω : (u' < 0 ∧ ω = 0) ∨ ((0 ≤ u' ∧ u' < 8) ∧ ω = N 255 u')) : ∃ v M' N', BV v ∧ X98 M M' ∧ Q189 N N' ∧ (v = 1 → M' 0 98 = N' 6 189 ∧ 0 ≤ M' 0 98 ∧ M' 0 98 ≤ N 6 142) ∧ Ex_ 3 89 [.inr (.inr 0), .inl (M 45 w), .inl κ, .inl σ, .inl ω] M [.inl v] M' ∧ Ex_ 3 409 [.inr (.inr 6), .inl w, .inl κ, .inl σ, .inl u'] N [.inl v] N' := by
  have hE := h.2.2.2.2.2.2
  obtain ⟨k, M', hk, fx, fk, gx, gq⟩ := j_90 (x2 := i) hw.1 (N 6 142 - i).toNat i M (by (clear h hw e98 hω hE; omega)) (by (clear h hw e98 hω hE; lia)) e98 h hw.2
  have x90 : Ex_ 2 90 [.inr (.inr 0), .inl (M 45 w)] M [.inl (if k = -1 then -1 else evp N k)] M' := fun Qr Qt g => t_90 fun V hV hW => gx V Qr Qt hV hW g
  have q410 : Ex_ 2 410 [.inr (.inr 6), .inl w, .inl i] N [.inl k] N := fun Qr Qt g => t_410 fun V hV hW => b_410_0 (Tr_mono _) hV hW _ _ _ (gq V Qr Qt hV hW g)
  by_cases ck : k = -1
  · refine ⟨0, M', N, .inl rfl, fx, Q189_rf, fun z => absurd z (by decide), fun Qr Qt g => t_89 fun V hV hW => b_89_0 (Tr_mono _) hV hW _ _ _ _ _ (x90 _ _ (ri_i ?_)), fun Qr Qt g => t_409 fun V hV hW => b_409_0 (Tr_mono _) hV hW _ _ _ _ _ ?_⟩
    · rw [if_pos ck, if_pos rfl]; exact ⟨.inl rfl, g⟩
    · rw [e189]
      refine q410 _ _ (ri_i ?_)
      rw [if_pos (by omega)]; exact ⟨.inl rfl, g⟩
  · have hk' := hk.resolve_left ck
    rw [if_neg ck] at x90
    obtain ⟨ep, ep0, ep1⟩ := evp_w hE hk'
    have n142 := hE.1.2.2.1
    have w2 : w32 (evp N k + 2) = evp N k + 2 := w32_id (by (clear h hw e98 e189 hi hω hE hk fx fk gx gq x90 q410 ck hk' ep n142; omega)) (by omega)
    have w3 : w32 (evp N k + 3) = evp N k + 3 := w32_id (by (clear h hw e98 e189 hi hω hE hk fx fk gx gq x90 q410 ck hk' ep n142; lia)) (by (clear h hw e98 e189 hi hω hE hk fx fk gx gq x90 q410 ck hk' ep n142; lia))
    have wk : w32 (k + 1) = k + 1 := w32_id (by omega) (by (clear h hw e98 e189 hi hω hE hk fx fk gx gq x90 q410 ck ep ep0 ep1 w2 w3; lia))
    have e0 : M 23 (evp N k) = N 240 (evp N k) := hE.2 _ (by omega) (by (clear h hw e98 e189 hi hω hE hk fx fk gx gq x90 q410 ck hk' ep n142 wk; lia))
    have e2 : M 23 (evp N k + 2) = N 240 (evp N k + 2) := hE.2 _ (by (clear h hw e98 e189 hi hω hE hk fx fk gx gq x90 q410 ck hk' ep n142 wk e0; lia)) (by (clear h hw e98 e189 hi hω hE hk fx fk gx gq x90 q410 ck hk' ep n142 wk e0; lia))
    have e3 : M 23 (evp N k + 3) = N 240 (evp N k + 3) := hE.2 _ (by (clear h hw e98 e189 hi hω hE hk fx fk gx gq x90 q410 ck hk' ep n142 wk e0 e2; lia)) (by omega)
    have e23 : M' 23 = M 23 := fx.1 23 (by decide)
    obtain ⟨v, hv, iff⟩ := bit9 (N 240 (evp N k) = κ ∧ N 240 (evp N k + 2) = σ ∧ N 240 (evp N k + 3) = ω)
    refine ⟨v, M', up_ N 6 189 (k + 1), hv, fx, Q189_u, fun _ => by rw [up_at, fk ck]; exact ⟨rfl, by (clear h hw e98 e189 hi hω hE hk fx fk gx gq x90 q410 ck ep ep0 ep1 n142 w2 w3 e0 e2 e3 e23 hv iff; lia), by omega⟩, fun Qr Qt g => t_89 fun V hV hW => b_89_0 (Tr_mono _) hV hW _ _ _ _ _ (x90 _ _ (ri_i ?_)), fun Qr Qt g => t_409 fun V hV hW => b_409_0 (Tr_mono _) hV hW _ _ _ _ _ ?_⟩
    · have yes : v = 1 → bl_ 1 ∧ Qr [.inl 1] M' := fun z => by rw [z] at g; exact ⟨.inr rfl, g⟩
      have no : v ≠ 1 → bl_ 0 ∧ Qr [.inl 0] M' := fun z => by rw [hv.resolve_right z] at g; exact ⟨.inl rfl, g⟩
      rw [if_neg (by (clear h hw e98 e189 hi hω hE hk fx fk gx gq x90 q410 ck hk' ep n142 wk e0 e2 e3 e23 hv iff g hV hW yes no; lia)), e23, w2, w3, e0, e2, e3]
      refine ⟨by (clear h hw e98 e189 hi hω hE hk fx fk gx gq x90 q410 ck hk' ep n142 wk e0 e2 e3 e23 hv iff g hV hW yes no; lia), ?_⟩
      by_cases c1 : N 240 (evp N k) = κ
      · rw [if_pos c1]
        refine ⟨by (clear h hw e98 e189 hi hω hE hk fx fk gx gq x90 q410 ck hk' ep n142 wk e0 e2 e3 e23 hv iff g hV hW yes no c1; lia), ?_⟩
        by_cases c2 : N 240 (evp N k + 2) = σ
        · rw [if_pos c2]
          refine ⟨by (clear h hw e98 e189 hi hω hE hk fx fk gx gq x90 q410 ck hk' ep n142 wk e0 e2 e3 e23 hv iff g hV hW yes no c1 c2; lia), ?_⟩
          by_cases c3 : N 240 (evp N k + 3) = ω
          · rw [if_pos c3]; exact yes (iff.2 ⟨c1, c2, c3⟩)
          · rw [if_neg c3]; exact no fun z => c3 (iff.1 z).2.2
        · rw [if_neg c2]; exact no fun z => c2 (iff.1 z).2.1
      · rw [if_neg c1]; exact no fun z => c1 (iff.1 z).1
    · have yes : v = 1 → bl_ 1 ∧ Qr [.inl 1] (up_ N 6 189 (k + 1)) := fun z => by rw [z] at g; exact ⟨.inr rfl, g⟩
      have no : v ≠ 1 → bl_ 0 ∧ Qr [.inl 0] (up_ N 6 189 (k + 1)) := fun z => by rw [hv.resolve_right z] at g; exact ⟨.inl rfl, g⟩
      rw [e189]
      refine q410 _ _ (ri_i ?_)
      rw [if_neg (by (clear h hw e98 e189 hi hω hE hk fx fk gx gq x90 q410 ck ep ep0 ep1 n142 w2 w3 e0 e2 e3 e23 hv iff g hV hW yes no; lia)), ep, w2, w3, wk]
      refine ⟨by decide, by omega, ?_⟩
      by_cases c1 : N 240 (evp N k) = κ
      · rw [if_pos c1]
        refine ⟨by omega, ?_⟩
        by_cases c2 : N 240 (evp N k + 2) = σ
        · rw [if_pos c2]
          refine ⟨by omega, ?_⟩
          rcases hω with ⟨h1, h2⟩ | ⟨h1, h2⟩
          · rw [if_pos h1]
            by_cases c3 : N 240 (evp N k + 3) = 0
            · rw [if_pos c3]; exact yes (iff.2 ⟨c1, c2, by rw [h2]; exact c3⟩)
            · rw [if_neg c3]; exact no fun z => c3 (by have := (iff.1 z).2.2; rw [h2] at this; exact this)
          · rw [if_neg (by (clear h hw e98 e189 hi hE hk fx fk gx gq x90 q410 ck hk' ep ep0 ep1 n142 w2 w3 wk e0 e2 e3 e23 hv iff g hV hW yes no c1 c2 h2; lia))]
            refine ⟨h1, ?_⟩
            by_cases c3 : N 240 (evp N k + 3) = N 255 u'
            · rw [if_pos c3]; exact yes (iff.2 ⟨c1, c2, by rw [h2]; exact c3⟩)
            · rw [if_neg c3]; exact no fun z => c3 (by have := (iff.1 z).2.2; rw [h2] at this; exact this)
        · rw [if_neg c2]; exact no fun z => c2 (iff.1 z).2.1
      · rw [if_neg c1]; exact no fun z => c1 (iff.1 z).1
/-- Q's loop when it has failed -/
theorem q_407f [Inhabited fz_] {V : vv_} {Qr : qr_} {Qt : qt_} (hV : Cl_ wd0 (Tr_ wd0 pg0 3) V Qr Qt m_407) (hW : Wk_ V) (g : Qr [.inl 0] N) : V 9 [rr 6, ii w, ii 0, ii l] [] N := b_407_9 (Tr_mono _) hV hW _ _ _ _ (by
  split
  · rw [if_pos rfl, if_pos rfl]; exact ⟨.inl rfl, g⟩
  · rw [if_pos rfl]; exact ⟨.inl rfl, g⟩)
/-- the lines of an inst -/
theorem j_86l [Inhabited fz_] (hw0 : 0 ≤ w) : ∀ (n : Nat) (l : Int) (M N : mm_), M 0 76 - l = n → 0 ≤ l → CHS M N → CHO M N → w < M 0 77 → M 0 98 = N 6 189 → 0 ≤ M 0 98 → M 0 98 ≤ N 6 142 → ∃ v M' N', BV v ∧ X98 M M' ∧ Q189 N N' ∧ (∀ (V : vv_) (Qr : qr_) (Qt : qt_), Cl_ wd0 (Tr_ wd0 pg0 3) V Qr Qt m_86 → Wk_ V → Qr [.inl v] M' → V 7 [rr 0, ii w, ii l] [] M) ∧ (∀ (V : vv_) (Qr : qr_) (Qt : qt_), Cl_ wd0 (Tr_ wd0 pg0 3) V Qr Qt m_407 → Wk_ V → Qr [.inl v] N' → V 9 [rr 6, ii w, ii 1, ii l] [] N) := by
  intro n
  induction n with
  | zero =>
    intro l M N hl l0 h hC hw e98 i0 i1
    have n1 := h.1
    have n2 := h.2.1
    obtain ⟨k, M', hk, fx, fk, gx, gq⟩ := j_90 (x2 := N 6 189) hw0 (N 6 142 - M 0 98).toNat (M 0 98) M (by omega) i0 rfl h hw
    have x90 : Ex_ 2 90 [.inr (.inr 0), .inl (M 45 w)] M [.inl (if k = -1 then -1 else evp N k)] M' := fun Qr Qt g => t_90 fun V hV hW => gx V Qr Qt hV hW g
    have q410 : Ex_ 2 410 [.inr (.inr 6), .inl w, .inl (N 6 189)] N [.inl k] N := fun Qr Qt g => t_410 fun V hV hW => b_410_0 (Tr_mono _) hV hW _ _ _ (by have := gq V Qr Qt hV hW g; rw [e98] at this; exact this)
    obtain ⟨v, hv, iff⟩ := bit9 (k = -1)
    have ek : (if k = -1 then -1 else evp N k) = -1 ↔ k = -1 := by
      by_cases c : k = -1
      · rw [if_pos c]; exact ⟨fun _ => c, fun _ => rfl⟩
      · rw [if_neg c]
        have := evp_w h.2.2.2.2.2.2 (hk.resolve_left c)
        exact ⟨fun z => by (clear hw0 hl l0 h hC hw e98 i0 i1 n1 n2 hk fx fk gx gq x90 q410 hv iff c; omega), fun z => absurd z c⟩
    refine ⟨v, M', N, hv, fx, Q189_rf, fun V Qr Qt hV hW g => b_86_7 (Tr_mono _) hV hW _ _ _ ?_, fun V Qr Qt hV hW g => b_407_9 (Tr_mono _) hV hW _ _ _ _ ?_⟩
    · rw [if_neg (by omega)]
      refine ⟨by omega, Ex_le (d := 2) (by decide) x90 _ _ (ri_i ?_)⟩
      by_cases c : k = -1
      · rw [if_pos (ek.2 c)]; rw [iff.2 c] at g; exact ⟨.inr rfl, g⟩
      · rw [if_neg (fun z => c (ek.1 z))]; rw [hv.resolve_right (fun z => c (iff.1 z))] at g; exact ⟨.inl rfl, g⟩
    · rw [if_neg (by (clear hw0 l0 h hC hw e98 i0 i1 n1 hk fx fk gx gq x90 q410 hv iff ek hV hW g; omega)), if_neg (by decide)]
      refine Ex_le (d := 2) (by decide) q410 _ _ (ri_i ?_)
      by_cases c : k = -1
      · rw [if_pos (by omega)]; rw [iff.2 c] at g; exact ⟨.inr rfl, g⟩
      · rw [if_neg (by (clear hw0 hl l0 h hC hw e98 i0 i1 n1 n2 fx gx gq x90 q410 hv hV hW g; lia))]; rw [hv.resolve_right (fun z => c (iff.1 z))] at g; exact ⟨.inl rfl, g⟩
  | succ n ih =>
    intro l M N hl l0 h hC hw e98 i0 i1
    have n1 := h.1
    have n2 := h.2.1
    have wl : w32 (l + 1) = l + 1 := w32_id (by omega) (by omega)
    obtain ⟨y, hy, xy, qy⟩ := j_87 h hC (l := l) (by (clear hw0 ih h hC hw e98 i0 i1 n1; omega))
    obtain ⟨s1, s2, s3, _⟩ := h.2.2.2.2.1 l l0 (by omega)
    have px : ∀ (V : vv_) (Qr : qr_) (Qt : qt_), Cl_ wd0 (Tr_ wd0 pg0 3) V Qr Qt m_86 → Wk_ V → (if y = 0 then V 7 [rr 0, ii w, ii (w32 (l + 1))] [] M else (0 ≤ l ∧ l < 40) ∧ (if M 46 l = w then (0 ≤ w ∧ w < 8) ∧ (0 ≤ l ∧ l < 40) ∧ (0 ≤ l ∧ l < 40) ∧ Tr_ wd0 pg0 3 88 [.inr (.inr 0), .inl (M 47 l)] M (ri_ fun v3 M3 => Tr_ wd0 pg0 3 89 [.inr (.inr 0), .inl (M 45 w), .inl 1, .inl (M 48 l), .inl v3] M3 (ri_ fun v4 M4 => if v4 = 0 then bl_ 0 ∧ Qr [.inl 0] M4 else V 79 [rr 0, ii w, ii l] [] M4) Qt) Qt else V 79 [rr 0, ii w, ii l] [] M)) → V 7 [rr 0, ii w, ii l] [] M := fun V Qr Qt hV hW g => b_86_7 (Tr_mono _) hV hW _ _ _ (by
      rw [if_pos (by omega)]
      exact ⟨by omega, by omega, Ex_le (d := 1) (by decide) xy _ _ (ri_i g)⟩)
    have pq : ∀ (V : vv_) (Qr : qr_) (Qt : qt_), Cl_ wd0 (Tr_ wd0 pg0 3) V Qr Qt m_407 → Wk_ V → (if y = 0 then V 9 [rr 6, ii w, ii 1, ii (w32 (l + 1))] [] N else (0 ≤ l ∧ l < 40) ∧ (if N 256 l = w then (0 ≤ l ∧ l < 40) ∧ (0 ≤ l ∧ l < 40) ∧ Tr_ wd0 pg0 3 409 [.inr (.inr 6), .inl w, .inl 1, .inl (N 258 l), .inl (N 257 l)] N (ri_ fun v4 M4 => V 61 [rr 6, ii w, ii v4, ii l] [] M4) Qt else V 61 [rr 6, ii w, ii 1, ii l] [] N)) → V 9 [rr 6, ii w, ii 1, ii l] [] N := fun V Qr Qt hV hW g => b_407_9 (Tr_mono _) hV hW _ _ _ _ (by
      rw [if_pos (by omega), if_neg (by decide)]
      exact Ex_le (d := 1) (by decide) qy _ _ (ri_i g))
    by_cases c0 : y = 0
    · obtain ⟨v, M', N', r1, r2, r3, gx, gq⟩ := ih (l + 1) M N (by omega) (by omega) h hC hw e98 i0 i1
      refine ⟨v, M', N', r1, r2, r3, fun V Qr Qt hV hW g => px V Qr Qt hV hW ?_, fun V Qr Qt hV hW g => pq V Qr Qt hV hW ?_⟩
      · rw [if_pos c0, wl]; exact gx V Qr Qt hV hW g
      · rw [if_pos c0, wl]; exact gq V Qr Qt hV hW g
    -- the right side, from memories as they are then
    have right : ∀ (M1 N1 : mm_), X98 M M1 → Q189 N N1 → M1 0 98 = N1 6 189 → 0 ≤ M1 0 98 → M1 0 98 ≤ N 6 142 → ∃ v M' N', BV v ∧ X98 M1 M' ∧ Q189 N1 N' ∧ (∀ (V : vv_) (Qr : qr_) (Qt : qt_), Cl_ wd0 (Tr_ wd0 pg0 3) V Qr Qt m_86 → Wk_ V → Qr [.inl v] M' → V 79 [rr 0, ii w, ii l] [] M1) ∧ (∀ (V : vv_) (Qr : qr_) (Qt : qt_), Cl_ wd0 (Tr_ wd0 pg0 3) V Qr Qt m_407 → Wk_ V → Qr [.inl v] N' → V 61 [rr 6, ii w, ii 1, ii l] [] N1) := by
      intro M1 N1 fx fq f98 f0 f1
      have h1 := CHS_c h (X98_J fx) (Q189_J fq)
      have C1 := CHO_c hC fx fq.1
      have r76 : M1 0 76 = M 0 76 := fx.2 76 (by decide)
      have r77 : M1 0 77 = M 0 77 := fx.2 77 (by decide)
      have r142 : N1 6 142 = N 6 142 := fq.2 142 (by decide)
      obtain ⟨t1, t2, t3, _⟩ := h1.2.2.2.2.1 l l0 (by (clear hw0 ih l0 h hC hw e98 i0 i1 n1 hy xy qy s1 s2 s3 px pq c0 fx fq f98 f0 f1 h1 C1 r77 r142; omega))
      have eq47 : M1 47 l = w ↔ N1 257 l = w := by
        rcases t2 with ⟨a1, a2⟩ | ⟨a1, a2, a3⟩
        · (clear ih hl l0 h hC hw e98 i0 i1 n1 n2 wl hy xy qy s1 s2 s3 px pq c0 fx fq f98 f0 f1 h1 C1 r76 r77 r142 t1 t3; omega)
        · (clear hw0 ih hl l0 h hC hw e98 i0 i1 n1 n2 wl hy xy qy s1 s2 s3 px pq c0 fx fq f98 f0 f1 h1 C1 r76 r77 r142 t1 t3 a2 a3; omega)
      by_cases c : M1 47 l = w
      · obtain ⟨ω, x88, hω⟩ := j_88 h1 t1
        obtain ⟨v, M2, N2, v1, gx2, gq2, v2, x89, q409⟩ := j_89 (κ := 2) (σ := M1 48 l) h1 (w := w) (by (clear ih hl l0 h hC e98 i0 i1 n2 wl hy xy qy s1 s2 s3 px pq c0 fx fq f98 f0 f1 h1 C1 r76 r142 t1 t2 t3 eq47 x88 hω; omega)) f98 rfl (by omega) hω
        by_cases cv : v = 0
        · refine ⟨0, M2, N2, .inl rfl, gx2, gq2, fun V Qr Qt hV hW g => b_86_79 (Tr_mono _) hV hW _ _ _ ?_, fun V Qr Qt hV hW g => b_407_61 (Tr_mono _) hV hW _ _ _ _ ?_⟩
          · rw [if_pos c]
            refine ⟨by omega, by (clear ih hl l0 h hC e98 i0 i1 n2 wl hy xy qy s1 s2 s3 px pq c0 fx fq f98 f0 f1 h1 C1 r76 r142 t1 t2 t3 eq47 x88 hω v1 gx2 gq2 v2 x89 q409 cv hV hW g; omega), by omega, by omega, Ex_le (d := 1) (by decide) x88 _ _ (ri_i (x89 _ _ (ri_i ?_)))⟩
            rw [if_pos cv]; exact ⟨.inl rfl, g⟩
          · rw [if_neg (by decide), if_pos (eq47.1 c), ← t3]
            refine ⟨by omega, by omega, by omega, q409 _ _ (ri_i ?_)⟩
            rw [cv]; exact q_407f hV hW g
        · have z := v2 (v1.resolve_left cv)
          have r76' : M2 0 76 = M1 0 76 := gx2.2 76 (by decide)
          obtain ⟨v', M', N', r1, r2, r3, gx, gq⟩ := ih (l + 1) M2 N2 (by (clear hw0 ih l0 h hC hw e98 i0 i1 n1 wl hy xy qy s1 s2 s3 px pq c0 fx fq f98 f0 f1 h1 C1 r77 r142 t1 t2 t3 eq47 c x88 hω v1 gx2 gq2 v2 x89 q409 cv z; omega)) (by (clear hw0 ih h hC hw e98 i0 i1 n1 hy xy qy s1 s2 s3 px pq c0 fx fq f98 f0 f1 h1 C1 r76 r77 r142 t1 t2 t3 eq47 c x88 hω v1 gx2 gq2 v2 x89 q409 cv z r76'; omega)) (CHS_c h1 (X98_J gx2) (Q189_J gq2)) (CHO_c C1 gx2 gq2.1) (by rw [gx2.2 77 (by decide)]; (clear hw0 ih hl l0 h hC e98 i0 i1 n2 wl hy xy qy s1 s2 s3 px pq c0 fx fq f98 f0 f1 h1 C1 r76 r142 t1 t2 t3 eq47 x88 hω v1 gx2 gq2 v2 x89 q409 cv z r76'; omega)) z.1 z.2.1 (by rw [gq2.2 142 (by decide)]; exact z.2.2)
          have e45 : M2 45 = M1 45 := gx2.1 45 (by decide)
          refine ⟨v', M', N', r1, X98_tr gx2 r2, Q189_tr gq2 r3, fun V Qr Qt hV hW g => b_86_79 (Tr_mono _) hV hW _ _ _ ?_, fun V Qr Qt hV hW g => b_407_61 (Tr_mono _) hV hW _ _ _ _ ?_⟩
          · rw [if_pos c, wl]
            refine ⟨by (clear hw0 ih h hC hw e98 i0 i1 n1 hy xy qy s1 s2 s3 px pq c0 fx fq f98 f0 f1 h1 C1 r77 r142 t1 t2 t3 eq47 c x88 hω v1 gx2 gq2 v2 x89 q409 cv z r1 r2 r3 gx gq e45 hV hW g; omega), by (clear ih hl l0 h hC e98 i0 i1 n2 wl hy xy qy s1 s2 s3 px pq c0 fx fq f98 f0 f1 h1 C1 r76 r142 t1 t2 t3 eq47 x88 hω v1 gx2 gq2 v2 x89 q409 cv z r76' r1 r2 r3 gx gq e45 hV hW g; omega), by omega, by omega, Ex_le (d := 1) (by decide) x88 _ _ (ri_i (x89 _ _ (ri_i ?_)))⟩
            rw [if_neg cv]; exact gx V Qr Qt hV hW g
          · rw [if_neg (by decide), if_pos (eq47.1 c), ← t3, wl]
            refine ⟨by omega, by omega, by omega, q409 _ _ (ri_i ?_)⟩
            rw [v1.resolve_left cv]; exact gq V Qr Qt hV hW g
      · obtain ⟨v', M', N', r1, r2, r3, gx, gq⟩ := ih (l + 1) M1 N1 (by (clear hw0 ih l0 h hC hw e98 i0 i1 n1 wl hy xy qy s1 s2 s3 px pq c0 fx fq f98 f0 f1 h1 C1 r77 r142 t1 t2 t3 eq47 c; omega)) (by omega) h1 C1 (by (clear hw0 ih hl l0 h hC e98 i0 i1 n2 wl hy xy qy s1 s2 s3 px pq c0 fx fq f98 f0 f1 h1 C1 r76 r142 t1 t2 t3 eq47 c; omega)) f98 f0 (by (clear hw0 ih hl l0 h hC hw e98 i0 i1 n1 n2 wl hy xy qy s1 s2 s3 px pq c0 fx fq f0 h1 C1 r76 r77 t1 t2 t3 eq47 c; omega))
        refine ⟨v', M', N', r1, r2, r3, fun V Qr Qt hV hW g => b_86_79 (Tr_mono _) hV hW _ _ _ ?_, fun V Qr Qt hV hW g => b_407_61 (Tr_mono _) hV hW _ _ _ _ ?_⟩
        · rw [if_neg c, wl]; exact ⟨by (clear hw0 ih h hC hw e98 i0 i1 n1 hy xy qy s1 s2 s3 px pq c0 fx fq f98 f0 f1 h1 C1 r77 r142 t1 t2 t3 eq47 c r1 r2 r3 gx gq hV hW g; omega), gx V Qr Qt hV hW g⟩
        · rw [if_neg (by decide), if_neg (fun z => c (eq47.2 z)), wl]; exact ⟨by omega, gq V Qr Qt hV hW g⟩
    have eq46 : M 46 l = w ↔ N 256 l = w := by
      rcases s1 with ⟨a1, a2⟩ | ⟨a1, a2, a3⟩
      · omega
      · (clear hw0 ih hl l0 h hC hw e98 i0 i1 n1 n2 wl hy xy qy s2 s3 px pq c0 right a2 a3; omega)
    by_cases c : M 46 l = w
    · obtain ⟨ω, x88, hω⟩ := j_88 h s2
      obtain ⟨v, M2, N2, v1, gx2, gq2, v2, x89, q409⟩ := j_89 (κ := 1) (σ := M 48 l) h (w := w) (by omega) e98 rfl (by omega) hω
      by_cases cv : v = 0
      · refine ⟨0, M2, N2, .inl rfl, gx2, gq2, fun V Qr Qt hV hW g => px V Qr Qt hV hW ?_, fun V Qr Qt hV hW g => pq V Qr Qt hV hW ?_⟩
        · rw [if_neg c0, if_pos c]
          refine ⟨by (clear hw0 ih h hC hw e98 i0 i1 n1 hy xy qy s1 s2 s3 px pq c0 right eq46 c x88 hω v1 gx2 gq2 v2 x89 q409 cv hV hW g; omega), by omega, by omega, by omega, Ex_le (d := 1) (by decide) x88 _ _ (ri_i (x89 _ _ (ri_i ?_)))⟩
          rw [if_pos cv]; exact ⟨.inl rfl, g⟩
        · rw [if_neg c0, if_pos (eq46.1 c), ← s3]
          refine ⟨by omega, by omega, by omega, q409 _ _ (ri_i (b_407_61 (Tr_mono _) hV hW _ _ _ _ ?_))⟩
          rw [if_pos cv, cv, wl]; exact q_407f hV hW g
      · have z := v2 (v1.resolve_left cv)
        obtain ⟨v', M', N', r1, r2, r3, gx, gq⟩ := right M2 N2 gx2 gq2 z.1 z.2.1 z.2.2
        refine ⟨v', M', N', r1, X98_tr gx2 r2, Q189_tr gq2 r3, fun V Qr Qt hV hW g => px V Qr Qt hV hW ?_, fun V Qr Qt hV hW g => pq V Qr Qt hV hW ?_⟩
        · rw [if_neg c0, if_pos c]
          refine ⟨by (clear hw0 ih h hC hw e98 i0 i1 n1 hy xy qy s1 s2 s3 px pq c0 right eq46 c x88 hω v1 gx2 gq2 v2 x89 q409 cv z r1 r2 r3 gx gq hV hW g; omega), by (clear ih hl l0 h hC e98 i0 i1 n2 wl hy xy qy s1 s2 s3 px pq c0 right eq46 x88 hω v1 gx2 gq2 v2 x89 q409 cv z r1 r2 r3 gx gq hV hW g; omega), by omega, by omega, Ex_le (d := 1) (by decide) x88 _ _ (ri_i (x89 _ _ (ri_i ?_)))⟩
          rw [if_neg cv]; exact gx V Qr Qt hV hW g
        · rw [if_neg c0, if_pos (eq46.1 c), ← s3]
          refine ⟨by omega, by omega, by omega, q409 _ _ (ri_i ?_)⟩
          rw [v1.resolve_left cv]; exact gq V Qr Qt hV hW g
    · obtain ⟨v', M', N', r1, r2, r3, gx, gq⟩ := right M N X98_rf Q189_rf e98 i0 i1
      refine ⟨v', M', N', r1, r2, r3, fun V Qr Qt hV hW g => px V Qr Qt hV hW ?_, fun V Qr Qt hV hW g => pq V Qr Qt hV hW ?_⟩
      · rw [if_neg c0, if_neg c]; exact ⟨by omega, gx V Qr Qt hV hW g⟩
      · rw [if_neg c0, if_neg (fun z => c (eq46.2 z))]; exact ⟨by omega, gq V Qr Qt hV hW g⟩
theorem j_86 [Inhabited fz_] (h : CHS M N) (hC : CHO M N) (hw : 0 ≤ w ∧ w < M 0 77) : ∃ v M' N', BV v ∧ X98 M M' ∧ Q189 N N' ∧ Ex_ 4 86 [.inr (.inr 0), .inl w] M [.inl v] M' ∧ Ex_ 4 407 [.inr (.inr 6), .inl w] N [.inl v] N' := by
  have n142 := h.2.2.2.2.2.2.1.2.2.1
  obtain ⟨v, M', N', r1, r2, r3, gx, gq⟩ := j_86l hw.1 (M 0 76).toNat 0 (up_ M 0 98 0) (up_ N 6 189 0) (by rw [upo (by decide)]; have := h.2.1; (clear h hC hw n142; lia)) (by omega) (CHS_c h (X98_J X98_u) (Q189_J Q189_u)) (CHO_c hC X98_u Q189_u.1) (by rw [upo (by decide)]; exact hw.2) (by rw [up_at, up_at]) (by rw [up_at]; omega) (by rw [up_at, upo (by decide)]; omega)
  exact ⟨v, M', N', r1, X98_tr X98_u r2, Q189_tr Q189_u r3, fun Qr Qt g => t_86 fun V hV hW => b_86_0 (Tr_mono _) hV hW _ _ (gx V Qr Qt hV hW g), fun Qr Qt g => t_407 fun V hV hW => b_407_0 (Tr_mono _) hV hW _ _ (gq V Qr Qt hV hW g)⟩
end CJc
end T438_cj
section T439_cj
/-! charts: all choices (X 85 | Q 405, 406, 412) -/
section CJd
variable {M N M' N' M1 N1 M2 N2 : mm_} {a k f t x c w p i u v s l o m A W x1 x2 x3 x4 : Int}
theorem l_46 [Inhabited fz_] : ∀ (n : Nat) (k : Int) (M N : mm_), M 0 77 - k = n → 0 ≤ k → CHS M N → CHO M N → ∃ v M' N', BV v ∧ X98 M M' ∧ Q189 N N' ∧ (∀ (V : vv_) (Qr : qr_) (Qt : qt_), Cl_ wd0 (Tr_ wd0 pg0 4) V Qr Qt m_85 → Wk_ V → V 95 [rr 0, ii (w32 (x1 + v)), ii x2, ii x3, ii v, ii (M 0 78 - 1)] [] M' → V 46 [rr 0, ii x1, ii x2, ii x3, ii 1, ii k] [] M) ∧ (∀ (V : vv_) (Qr : qr_) (Qt : qt_), Cl_ wd0 (Tr_ wd0 pg0 4) V Qr Qt m_406 → Wk_ V → Qr [.inl v] N' → V 4 [rr 6, ii 1, ii k] [] N) := by
  intro n
  induction n with
  | zero =>
    intro k M N hk k0 h hC
    have n1 := h.1
    have n3 := h.2.2.1
    refine ⟨1, M, N, .inr rfl, X98_rf, Q189_rf, fun V Qr Qt hV hW g => b_85_46 (Tr_mono _) hV hW _ _ _ _ _ _ ?_, fun V Qr Qt hV hW g => b_406_4 (Tr_mono _) hV hW _ _ _ ?_⟩
    · rw [if_neg (by (clear k0 h hC n1 n3 hV hW g; omega)), if_neg (by decide), w32_id (x := M 0 78 - 1) (by (clear hk k0 h hC n1 hV hW g; omega)) (by omega)]; exact g
    · rw [if_neg (by (clear k0 h hC n3 hV hW g; omega))]; exact ⟨.inr rfl, g⟩
  | succ n ih =>
    intro k M N hk k0 h hC
    have n1 := h.1
    have n3 := h.2.2.1
    have wk : w32 (k + 1) = k + 1 := w32_id (by omega) (by (clear ih k0 h hC n3; omega))
    obtain ⟨y, M1, N1, y1, y2, y3, xy, qy⟩ := j_86 h hC (w := k) (by omega)
    have px : ∀ (V : vv_) (Qr : qr_) (Qt : qt_), Cl_ wd0 (Tr_ wd0 pg0 4) V Qr Qt m_85 → Wk_ V → V 46 [rr 0, ii x1, ii x2, ii x3, ii y, ii (k + 1)] [] M1 → V 46 [rr 0, ii x1, ii x2, ii x3, ii 1, ii k] [] M := fun V Qr Qt hV hW g => b_85_46 (Tr_mono _) hV hW _ _ _ _ _ _ (by
      rw [if_pos (by omega), if_neg (by decide), wk]
      exact xy _ _ (ri_i g))
    have pq : ∀ (V : vv_) (Qr : qr_) (Qt : qt_), Cl_ wd0 (Tr_ wd0 pg0 4) V Qr Qt m_406 → Wk_ V → V 4 [rr 6, ii y, ii (k + 1)] [] N1 → V 4 [rr 6, ii 1, ii k] [] N := fun V Qr Qt hV hW g => b_406_4 (Tr_mono _) hV hW _ _ _ (by
      rw [if_pos (by omega), if_neg (by decide), wk]
      exact qy _ _ (ri_i g))
    rcases y1 with rfl | rfl
    · refine ⟨0, M1, N1, .inl rfl, y2, y3, fun V Qr Qt hV hW g => px V Qr Qt hV hW (b_85_46 (Tr_mono _) hV hW _ _ _ _ _ _ ?_), fun V Qr Qt hV hW g => pq V Qr Qt hV hW (b_406_4 (Tr_mono _) hV hW _ _ _ ?_)⟩
      · rw [y2.2 78 (by decide), w32_id (x := M 0 78 - 1) (by (clear ih hk k0 h hC n1 wk y2 y3 xy qy px pq hV hW g; omega)) (by omega)]
        split
        · rw [if_pos rfl, if_pos rfl]; exact g
        · rw [if_pos rfl]; exact g
      · split
        · rw [if_pos rfl]; exact ⟨.inl rfl, g⟩
        · exact ⟨.inl rfl, g⟩
    · obtain ⟨v, M', N', r1, r2, r3, gx, gq⟩ := ih (k + 1) M1 N1 (by rw [y2.2 77 (by decide)]; omega) (by omega) (CHS_c h (X98_J y2) (Q189_J y3)) (CHO_c hC y2 y3.1)
      rw [y2.2 78 (by decide)] at gx
      exact ⟨v, M', N', r1, X98_tr y2 r2, Q189_tr y3 r3, fun V Qr Qt hV hW g => px V Qr Qt hV hW (gx V Qr Qt hV hW g), fun V Qr Qt hV hW g => pq V Qr Qt hV hW (gq V Qr Qt hV hW g)⟩
/-- only the choices -/
def X54 (M M' : mm_) : Prop := ∀ r, r ≠ 54 → M' r = M r
def Q265 (N N' : mm_) : Prop := ∀ r, r ≠ 265 → N' r = N r
theorem X54_J [Inhabited fz_] (h : X54 M M') : XJ M M' := ⟨fun r hr => h r (by rintro rfl; exact hr (by decide)), fun i _ => by rw [h 0 (by decide)]⟩
theorem Q265_J [Inhabited fz_] (h : Q265 N N') : QJ N N' := ⟨fun r hr => h r (by rintro rfl; exact hr (by decide)), fun i _ => by rw [h 6 (by decide)]⟩
/-- the next choice -/
theorem l_95 [Inhabited fz_] : ∀ (n : Nat) (k : Int) (M N : mm_), k + 1 = n → k < M 0 78 → CHS M N → CHO M N → ∃ y M' N', BV y ∧ CHO M' N' ∧ X54 M M' ∧ Q265 N N' ∧ (∀ (V : vv_) (Qr : qr_) (Qt : qt_), Cl_ wd0 (Tr_ wd0 pg0 4) V Qr Qt m_85 → Wk_ V → V 29 [rr 0, ii x1, ii y, ii (w32 (x3 + 1)), none, none] [] M' → V 95 [rr 0, ii x1, ii x2, ii x3, ii x4, ii k] [] M) ∧ (∀ (V : vv_) (Qr : qr_) (Qt : qt_), Cl_ wd0 (Tr_ wd0 pg0 4) V Qr Qt m_412 → Wk_ V → Qr [.inl y] N' → V 7 [rr 6, ii k] [] N) := by
  intro n
  induction n with
  | zero =>
    intro k M N hk k1 h hC
    refine ⟨0, M, N, .inl rfl, hC, fun _ _ => rfl, fun _ _ => rfl, fun V Qr Qt hV hW g => b_85_95 (Tr_mono _) hV hW _ _ _ _ _ _ ?_, fun V Qr Qt hV hW g => b_412_7 (Tr_mono _) hV hW _ _ ?_⟩
    · rw [if_pos (by omega)]
      refine b_85_133 (Tr_mono _) hV hW _ _ _ _ _ _ ?_
      rw [if_pos (by omega), if_pos rfl]; exact g
    · rw [if_pos (by omega)]; exact ⟨.inl rfl, g⟩
  | succ n ih =>
    intro k M N hk k1 h hC
    have n3 := h.2.2.1
    have al := h.2.2.2.2.2.1 k (by omega) k1
    obtain ⟨c1, c2, c3⟩ := hC k (by omega) k1
    have w1 : w32 (M 51 k - 1) = M 51 k - 1 := w32_id (by omega) (by omega)
    have w2 : w32 (k + -1) = k - 1 := by rw [w32_id (by omega) (by omega)]; rfl
    have w3 : w32 (M 54 k + 1) = M 54 k + 1 := w32_id (by omega) (by omega)
    have k6 : 0 ≤ k ∧ k < 6 := by (clear ih h hC al c1 c2 c3 w1 w3; lia)
    by_cases c : M 54 k = M 51 k - 1
    · have fx : X54 M (up_ M 54 k 0) := fun r hr => up_ne hr
      have fq : Q265 N (up_ (up_ N 265 k (M 54 k + 1)) 265 k 0) := fun r hr => by rw [up_ne hr, up_ne hr]
      have C1 : CHO (up_ M 54 k 0) (up_ (up_ N 265 k (M 54 k + 1)) 265 k 0) := by
        intro j j0 j1
        rw [up_ne (by decide)] at j1
        rw [up_ne (r' := 51) (by decide)]
        by_cases e : j = k
        · subst e; rw [up_at, up_at]; exact ⟨rfl, by omega, by (clear ih h hC n3 j0 j1 hk k1 c2 c3 w2 k6 fx fq; lia)⟩
        · rw [upo e, upo e, upo e]; exact hC j j0 j1
      obtain ⟨y, M', N', y1, y2, y3, y4, gx, gq⟩ := ih (k - 1) _ _ (by (clear ih k1 h hC n3 al c1 c2 c3 w1 w2 w3 k6 c fx fq C1; lia)) (by rw [up_ne (by decide)]; omega) (CHS_c h (X54_J fx) (Q265_J fq)) C1
      refine ⟨y, M', N', y1, y2, fun r hr => by rw [y3 r hr, fx r hr], fun r hr => by rw [y4 r hr, fq r hr], fun V Qr Qt hV hW g => b_85_95 (Tr_mono _) hV hW _ _ _ _ _ _ ?_, fun V Qr Qt hV hW g => b_412_7 (Tr_mono _) hV hW _ _ ?_⟩
      · rw [if_neg (by (clear ih k1 h hC n3 al c1 c2 c3 w1 w3 c fx fq C1 y1 y2 y3 y4 gx gq hV hW g; lia)), w1, if_pos c, w2]
        exact ⟨k6, k6, k6, gx V Qr Qt hV hW g⟩
      · rw [if_neg (by omega), ← c1, w3, up_at, if_neg (by (clear ih hk k1 h hC n3 c2 c3 w2 k6 fx fq C1 y1 y2 y3 y4 gx gq hV hW g; omega)), w2]
        exact ⟨k6, k6, k6, k6, k6, gq V Qr Qt hV hW g⟩
    · refine ⟨1, up_ M 54 k (M 54 k + 1), up_ N 265 k (M 54 k + 1), .inr rfl, ?_, fun r hr => up_ne hr, fun r hr => up_ne hr, fun V Qr Qt hV hW g => b_85_95 (Tr_mono _) hV hW _ _ _ _ _ _ ?_, fun V Qr Qt hV hW g => b_412_7 (Tr_mono _) hV hW _ _ ?_⟩
      · intro j j0 j1
        rw [up_ne (by decide)] at j1
        rw [up_ne (r' := 51) (by decide)]
        by_cases e : j = k
        · subst e; rw [up_at, up_at]; exact ⟨rfl, by (clear ih h hC n3 j0 j1 hk k1 al c3 w1 w2 k6 c; lia), by (clear ih h hC n3 j0 j1 hk k1 c2 w2 k6; lia)⟩
        · rw [upo e, upo e]; exact hC j j0 j1
      · rw [if_neg (by omega), w1, if_neg c]
        refine ⟨k6, k6, b_85_133 (Tr_mono _) hV hW _ _ _ _ _ _ ?_⟩
        rw [if_neg (by omega), if_neg (by decide), w3]
        exact ⟨k6, k6, g⟩
      · rw [if_neg (by omega), ← c1, w3, up_at, if_pos (by (clear ih hk k1 h hC n3 c2 w2 k6 hV hW g; lia))]
        exact ⟨k6, k6, k6, k6, .inr rfl, g⟩
/-- all of them -/
theorem l_29 [Inhabited fz_] : ∀ (n : Nat) (y many : Int) (M N : mm_), x3 = x3 → ∀ (lk : Int), 1000 - lk = n → 0 ≤ lk → BV y → 0 ≤ many → many ≤ lk → N 6 188 = many → CHS M N → CHO M N → ∃ r M' N', (0 ≤ r ∧ r ≤ 1000) ∧ XJ M M' ∧ QJ N N' ∧ N' 6 188 = r ∧ (∀ (V : vv_) (Qr : qr_) (Qt : qt_), Cl_ wd0 (Tr_ wd0 pg0 4) V Qr Qt m_85 → Wk_ V → Qr [.inl r] M' → V 29 [rr 0, ii many, ii y, ii lk, none, none] [] M) ∧ (∀ (V : vv_) (Qr : qr_) (Qt : qt_), Cl_ wd0 (Tr_ wd0 pg0 5) V Qr Qt m_405 → Wk_ V → Qr [] N' → V 40 [rr 6, ii lk, ii y] [] N) := by
  intro n
  induction n with
  | zero =>
    intro y many M N _ lk hl l0 hy m0 m1 e188 h hC
    refine ⟨many, M, N, by (clear l0 hy h hC; lia), XJ_rf, QJ_rf, e188, fun V Qr Qt hV hW g => b_85_29 (Tr_mono _) hV hW _ _ _ _ ?_, fun V Qr Qt hV hW g => b_405_40 (Tr_mono _) hV hW _ _ _ ?_⟩
    · rw [if_neg (by omega)]; exact g
    · split
      · exact g
      · rw [if_neg (by omega)]; exact g
  | succ n ih =>
    intro y many M N _ lk hl l0 hy m0 m1 e188 h hC
    rcases hy with rfl | rfl
    · refine ⟨many, M, N, by (clear ih h hC; lia), XJ_rf, QJ_rf, e188, fun V Qr Qt hV hW g => b_85_29 (Tr_mono _) hV hW _ _ _ _ ?_, fun V Qr Qt hV hW g => b_405_40 (Tr_mono _) hV hW _ _ _ ?_⟩
      · rw [if_pos (by omega), if_pos rfl]; exact g
      · rw [if_pos rfl]; exact g
    · have n1 := h.1
      have n3 := h.2.2.1
      obtain ⟨v, M1, N1, v1, v2, v3, gx, gq⟩ := l_46 (x1 := many) (x2 := 1) (x3 := lk) (M 0 77).toNat 0 M N (by omega) (by omega) h hC
      have h1 := CHS_c h (X98_J v2) (Q189_J v3)
      have C1 := CHO_c hC v2 v3.1
      have wm : w32 (many + v) = many + v := w32_id (by rcases v1 with rfl | rfl <;> (clear ih hl l0 m1 h hC n1 n3 v2 v3 h1 C1 gx gq; lia)) (by rcases v1 with rfl | rfl <;> (clear ih m0 h hC n1 n3 v2 v3 h1 C1 gx gq; lia))
      have q406 : Ex_ 5 406 [.inr (.inr 6)] N [.inl v] N1 := fun Qr Qt g => t_406 fun V hV hW => b_406_0 (Tr_mono _) hV hW _ (gq V Qr Qt hV hW g)
      have fq2 : QJ N1 (up_ N1 6 188 (many + v)) := ⟨fun r hr => up_ne (by rintro rfl; exact hr (by decide)), fun i hi => upo (by rintro rfl; exact hi (by decide))⟩
      have h2 := CHS_c h1 XJ_rf fq2
      have C2 : CHO M1 (up_ N1 6 188 (many + v)) := by unfold CHO at *; rw [up_ne (by decide)]; exact C1
      obtain ⟨y, M2, N2, y1, y2, y3, y4, hx, hq⟩ := l_95 (x1 := many + v) (x2 := 1) (x3 := lk) (x4 := v) (M1 0 78).toNat (M1 0 78 - 1) M1 (up_ N1 6 188 (many + v)) (by rw [v2.2 78 (by decide)]; (clear ih hl l0 m0 m1 e188 h hC n1 v1 v2 v3 gx gq h1 C1 wm q406 fq2 h2 C2; lia)) (by omega) h2 C2
      have q412 : Ex_ 5 412 [.inr (.inr 6)] (up_ N1 6 188 (many + v)) [.inl y] N2 := fun Qr Qt g => t_412 fun V hV hW => b_412_0 (Tr_mono _) hV hW _ (by
        have e : (up_ N1 6 188 (many + v)) 6 172 = M1 0 78 := h2.2.2.1.1
        rw [e, w32_id (by rw [v2.2 78 (by decide)]; omega) (by rw [v2.2 78 (by decide)]; omega)]
        exact hq V Qr Qt hV hW g)
      obtain ⟨r, M', N', r1, r2, r3, r4, kx, kq⟩ := ih y (many + v) M2 N2 rfl (lk + 1) (by omega) (by omega) y1 (by rcases v1 with rfl | rfl <;> (clear ih hl l0 m1 h hC n1 n3 v2 v3 h1 C1 y1 y2 y3 gx gq q406 fq2 h2 C2 y4 hx hq q412; lia)) (by rcases v1 with rfl | rfl <;> omega) (by rw [y4 6 (by decide), up_at]) (CHS_c h2 (X54_J y3) (Q265_J y4)) y2
      have wl : w32 (lk + 1) = lk + 1 := w32_id (by omega) (by omega)
      refine ⟨r, M', N', r1, XJ_tr (X98_J v2) (XJ_tr (X54_J y3) r2), QJ_tr (Q189_J v3) (QJ_tr fq2 (QJ_tr (Q265_J y4) r3)), r4, fun V Qr Qt hV hW g => b_85_29 (Tr_mono _) hV hW _ _ _ _ ?_, fun V Qr Qt hV hW g => b_405_40 (Tr_mono _) hV hW _ _ _ ?_⟩
      · rw [if_pos (by (clear ih m0 m1 e188 h hC n1 n3 v1 v2 v3 gx gq h1 C1 wm q406 fq2 h2 C2 y1 y2 y3 y4 hx hq q412 r1 r2 r3 r4 kx kq hV hW g; lia)), if_neg (by decide)]
        refine gx V Qr Qt hV hW ?_
        rw [wm, ← v2.2 78 (by decide)]
        refine hx V Qr Qt hV hW ?_
        rw [wl]; exact kx V Qr Qt hV hW g
      · rw [if_neg (by decide), if_pos (by omega), e188, wl]
        refine q406 _ _ (ri_i ?_)
        rcases v1 with rfl | rfl
        · rw [if_pos rfl, wm]; exact q412 _ _ (ri_i (kq V Qr Qt hV hW g))
        · rw [if_neg (by decide), wm]; exact q412 _ _ (ri_i (kq V Qr Qt hV hW g))
/-- how many choices are kept -/
theorem j_85 [Inhabited fz_] (h : CHS M N) : ∃ r M' N', (0 ≤ r ∧ r ≤ 1000) ∧ XJ M M' ∧ ((∀ q, q ∉ [6, 265] → N' q = N q) ∧ ∀ i, i ∉ [187, 188, 189] → N' 6 i = N 6 i) ∧ N' 6 188 = r ∧ N' 6 187 = M 0 76 ∧ Ex_ 5 85 [.inr (.inr 0)] M [.inl r] M' ∧ Ex_ 6 405 [.inr (.inr 6)] N [] N' := by
  have n2 := h.2.1
  have n3 := h.2.2.1
  -- the choices are set to 0
  have key : ∀ (n : Nat) (k : Int) (M1 N1 : mm_), M 0 78 - k = n → 0 ≤ k → X54 M M1 → Q265 (up_ (up_ N 6 187 (M 0 76)) 6 188 0) N1 → (∀ j, 0 ≤ j → j < k → M1 54 j = 0 ∧ N1 265 j = 0) → ∃ M' N', X54 M M' ∧ Q265 (up_ (up_ N 6 187 (M 0 76)) 6 188 0) N' ∧ (∀ j, 0 ≤ j → j < M 0 78 → M' 54 j = 0 ∧ N' 265 j = 0) ∧ (∀ (V : vv_) (Qr : qr_) (Qt : qt_), Cl_ wd0 (Tr_ wd0 pg0 4) V Qr Qt m_85 → Wk_ V → V 29 [rr 0, ii 0, ii 1, ii 0, none, none] [] M' → V 2 [rr 0, ii k, none, none, none, none] [] M1) ∧ (∀ (V : vv_) (Qr : qr_) (Qt : qt_), Cl_ wd0 (Tr_ wd0 pg0 5) V Qr Qt m_405 → Wk_ V → V 40 [rr 6, ii 0, ii 1] [] N' → V 15 [rr 6, ii k, none] [] N1) := by
    intro n
    induction n with
    | zero =>
      intro k M1 N1 hk k0 fx fq hz
      refine ⟨M1, N1, fx, fq, fun j j0 j1 => hz j j0 (by omega), fun V Qr Qt hV hW g => b_85_2 (Tr_mono _) hV hW _ _ ?_, fun V Qr Qt hV hW g => b_405_15 (Tr_mono _) hV hW _ _ ?_⟩
      · rw [if_neg (by rw [fx 0 (by decide)]; omega)]; exact g
      · rw [if_neg (by rw [fq 6 (by decide), upo (by decide), upo (by decide)]; omega)]; exact g
    | succ n ih =>
      intro k M1 N1 hk k0 fx fq hz
      obtain ⟨M', N', r1, r2, r3, gx, gq⟩ := ih (k + 1) (up_ M1 54 k 0) (up_ N1 265 k 0) (by omega) (by omega) (fun r hr => by rw [up_ne hr]; exact fx r hr) (fun r hr => by rw [up_ne hr]; exact fq r hr) (fun j j0 j1 => by
        by_cases e : j = k
        · subst e; rw [up_at, up_at]; exact ⟨rfl, rfl⟩
        · rw [upo e, upo e]; exact hz j j0 (by omega))
      refine ⟨M', N', r1, r2, r3, fun V Qr Qt hV hW g => b_85_2 (Tr_mono _) hV hW _ _ ?_, fun V Qr Qt hV hW g => b_405_15 (Tr_mono _) hV hW _ _ ?_⟩
      · rw [if_pos (by rw [fx 0 (by decide)]; omega), w32_id (by omega) (by (clear h n2 ih k0 fx fq hz r1 r2 r3 gx gq hV hW g; omega))]; exact ⟨by omega, gx V Qr Qt hV hW g⟩
      · rw [if_pos (by rw [fq 6 (by decide), upo (by decide), upo (by decide)]; omega), w32_id (by omega) (by omega)]; exact ⟨by omega, gq V Qr Qt hV hW g⟩
  obtain ⟨M1, N1, fx, fq, hz, gx, gq⟩ := key (M 0 78).toNat 0 M (up_ (up_ N 6 187 (M 0 76)) 6 188 0) (by (clear h n2 key; lia)) (by omega) (fun _ _ => rfl) (fun _ _ => rfl) (fun j j0 j1 => by omega)
  have fqq : (∀ q, q ∉ [6, 265] → N1 q = N q) ∧ ∀ i, i ∉ [187, 188] → N1 6 i = N 6 i := ⟨fun q hq => by
    simp only [List.mem_cons, List.not_mem_nil, or_false, not_or] at hq
    rw [fq q hq.2, up_ne hq.1, up_ne hq.1], fun i hi => by
    simp only [List.mem_cons, List.not_mem_nil, or_false, not_or] at hi
    rw [fq 6 (by decide), upo hi.2, upo hi.1]⟩
  have h1 : CHS M1 N1 := by
    have hx := X54_J fx
    unfold CHS LJ9 SDJ EVT lvL rwL at *
    rw [hx.2 77 (by decide), hx.2 76 (by decide), hx.2 78 (by decide), hx.2 35 (by decide), hx.2 36 (by decide), hx.1 45 (by decide), hx.1 46 (by decide), hx.1 47 (by decide), hx.1 48 (by decide), hx.1 49 (by decide), hx.1 50 (by decide), hx.1 51 (by decide), hx.1 52 (by decide), hx.1 53 (by decide), hx.1 23 (by decide), fqq.2 170 (by decide), fqq.2 171 (by decide), fqq.2 172 (by decide), fqq.2 142 (by decide), fqq.2 143 (by decide), fqq.1 255 (by decide), fqq.1 256 (by decide), fqq.1 257 (by decide), fqq.1 258 (by decide), fqq.1 259 (by decide), fqq.1 260 (by decide), fqq.1 261 (by decide), fqq.1 262 (by decide), fqq.1 240 (by decide)]
    exact h
  have C1 : CHO M1 N1 := fun k k0 k1 => by
    have k1' : k < M 0 78 := by rw [← fx 0 (by decide)]; exact k1
    have z := hz k k0 k1'
    rw [z.1, z.2, fx 51 (by decide)]
    exact ⟨rfl, by (clear h n2 n3 key fx fq hz gx gq fqq h1 k0 k1 k1' z; lia), by have := (h.2.2.2.2.2.1 k k0 k1').2.1; omega⟩
  obtain ⟨r, M', N', r1, r2, r3, r4, kx, kq⟩ := l_29 (x3 := 0) 1000 1 0 M1 N1 rfl 0 (by omega) (by omega) (.inr rfl) (by omega) (by omega) (by rw [fq 6 (by decide), up_at]) h1 C1
  refine ⟨r, M', N', r1, XJ_tr (X54_J fx) r2, ⟨fun q hq => by rw [r3.1 q hq, fqq.1 q hq], fun i hi => ?_⟩, r4, ?_, fun Qr Qt g => t_85 fun V hV hW => b_85_0 (Tr_mono _) hV hW _ (gx V Qr Qt hV hW (kx V Qr Qt hV hW g)), fun Qr Qt g => t_405 fun V hV hW => b_405_0 (Tr_mono _) hV hW _ ?_⟩
  · simp only [List.mem_cons, List.not_mem_nil, or_false, not_or] at hi
    rw [r3.2 i (by simp only [List.mem_cons, List.not_mem_nil, or_false, not_or]; exact hi.2), fqq.2 i (by simp only [List.mem_cons, List.not_mem_nil, or_false, not_or]; exact ⟨hi.1, hi.2.1⟩)]
  · rw [r3.2 187 (by decide), fq 6 (by decide), upo (by decide), up_at]
  · rw [n2.1]
    exact gq V Qr Qt hV hW (kq V Qr Qt hV hW g)
end CJd
end T439_cj
section T440_ch
/-! charts whole (X 72, 92 | Q 397, 413) -/
def BY (M : mm_) (r : Nat) : Prop := ∀ i, 0 ≤ i → i < 5000 → -128 ≤ M r i ∧ M r i ≤ 127
def TAP (M N : mm_) : Prop := (M 0 6 = N 6 3 ∧ 0 ≤ M 0 6 ∧ M 0 6 ≤ 5000) ∧ ∀ i, 0 ≤ i → i < M 0 6 → M 9 i = N 145 i
def xchL : List Nat := [0, 3, 44, 45, 46, 47, 48, 49, 50, 51, 52, 53, 54, 74, 75, 76, 77, 78]
def xchI : List Int := [6, 71, 75, 76, 77, 78, 79, 92, 93, 94, 95, 96, 97, 98]
def qchL : List Nat := [6, 146, 149, 150, 151, 254, 255, 256, 257, 258, 259, 260, 261, 262, 263, 264, 265, 266]
def qchI : List Int := [3, 4, 11, 12, 13, 14, 15, 16, 119, 170, 171, 172, 186, 187, 188, 189]
def XCH (M M' : mm_) : Prop := (∀ r, r ∉ xchL → M' r = M r) ∧ ∀ i, i ∉ xchI → M' 0 i = M 0 i
def QCH (N N' : mm_) : Prop := (∀ r, r ∉ qchL → N' r = N r) ∧ ∀ i, i ∉ qchI → N' 6 i = N 6 i
def CPR (M N : mm_) : Prop := M 0 71 = N 6 119 ∧ M 0 96 = N 6 187 ∧ M 0 97 = N 6 188
section CHb
variable {b : Int} {M N M' N' M1 N1 M2 N2 : mm_} {a k f t x c w p i u v s l o m A W x1 x2 : Int}
theorem XCH_rf [Inhabited fz_] : XCH M M := ⟨fun _ _ => rfl, fun _ _ => rfl⟩
theorem QCH_rf [Inhabited fz_] : QCH N N := ⟨fun _ _ => rfl, fun _ _ => rfl⟩
theorem XCH_tr [Inhabited fz_] (h : XCH M M1) (g : XCH M1 M2) : XCH M M2 := ⟨fun r hr => by rw [g.1 r hr, h.1 r hr], fun i hi => by rw [g.2 i hi, h.2 i hi]⟩
theorem QCH_tr [Inhabited fz_] (h : QCH N N1) (g : QCH N1 N2) : QCH N N2 := ⟨fun r hr => by rw [g.1 r hr, h.1 r hr], fun i hi => by rw [g.2 i hi, h.2 i hi]⟩
theorem XCH_0 [Inhabited fz_] (h : XCH M M1) (hi : i ∈ xchI) : XCH M (up_ M1 0 i v) := ⟨fun r hr => by rw [up_ne (by rintro rfl; exact hr (by decide))]; exact h.1 r hr, fun j hj => by rw [upo (by rintro rfl; exact hj hi)]; exact h.2 j hj⟩
theorem QCH_6 [Inhabited fz_] (h : QCH N N1) (hi : i ∈ qchI) : QCH N (up_ N1 6 i v) := ⟨fun r hr => by rw [up_ne (by rintro rfl; exact hr (by decide))]; exact h.1 r hr, fun j hj => by rw [upo (by rintro rfl; exact hj hi)]; exact h.2 j hj⟩
theorem XTd_ch [Inhabited fz_] (h : XTd M M') : XCH M M' := ⟨fun r hr => h.1 r fun z => hr (by
  unfold xdL9 at z; simp only [List.mem_cons, List.not_mem_nil, or_false] at z
  rcases z with rfl | rfl | rfl | rfl | rfl | rfl | rfl | rfl | rfl | rfl | rfl <;> decide), fun i hi => h.2 i fun z => hi (by
  unfold xdI9 at z; simp only [List.mem_cons, List.not_mem_nil, or_false] at z
  rcases z with rfl | rfl | rfl | rfl | rfl | rfl | rfl | rfl | rfl <;> decide)⟩
theorem QTd_ch [Inhabited fz_] (h : QTd N N') : QCH N N' := ⟨fun r hr => h.1 r fun z => hr (by
  unfold qdL9 at z; simp only [List.mem_cons, List.not_mem_nil, or_false] at z
  rcases z with rfl | rfl | rfl | rfl | rfl | rfl | rfl | rfl | rfl | rfl | rfl | rfl | rfl <;> decide), fun i hi => h.2 i fun z => hi (by
  unfold qdI9 at z; simp only [List.mem_cons, List.not_mem_nil, or_false] at z
  rcases z with rfl | rfl | rfl | rfl | rfl | rfl | rfl <;> decide)⟩
theorem XJ_ch [Inhabited fz_] (h : XJ M M') : XCH M M' := ⟨fun r hr => h.1 r fun z => hr (by
  simp only [List.mem_cons, List.not_mem_nil, or_false] at z
  rcases z with rfl | rfl <;> decide), fun i hi => h.2 i fun z => hi (by rw [z]; decide)⟩
/-- Q's start of a text -/
def chQ (N : mm_) : mm_ := up_ (up_ (up_ (up_ (up_ (up_ N 6 12 0) 6 15 0) 6 170 0) 6 171 0) 6 172 0) 6 186 0
theorem chQ_r [Inhabited fz_] {r : Nat} (h : r ≠ 6) : chQ N r = N r := by unfold chQ; rw [up_ne h, up_ne h, up_ne h, up_ne h, up_ne h, up_ne h]
theorem chQ_6 [Inhabited fz_] (h : i ∉ [12, 15, 170, 171, 172, 186]) : chQ N 6 i = N 6 i := by
  simp only [List.mem_cons, List.not_mem_nil, or_false, not_or] at h
  unfold chQ; rw [upo h.2.2.2.2.2, upo h.2.2.2.2.1, upo h.2.2.2.1, upo h.2.2.1, upo h.2.1, upo h.1]
theorem chQ_k [Inhabited fz_] : chQ N 6 12 = 0 ∧ chQ N 6 170 = 0 ∧ chQ N 6 171 = 0 ∧ chQ N 6 172 = 0 ∧ chQ N 6 186 = 0 := by
  unfold chQ
  refine ⟨?_, ?_, ?_, ?_, up_at⟩
  · rw [upo (by decide), upo (by decide), upo (by decide), upo (by decide), upo (by decide), up_at]
  · rw [upo (by decide), upo (by decide), upo (by decide), up_at]
  · rw [upo (by decide), upo (by decide), up_at]
  · rw [upo (by decide), up_at]
theorem chQ_ch [Inhabited fz_] (h : QCH N N1) : QCH N (chQ N1) := QCH_6 (QCH_6 (QCH_6 (QCH_6 (QCH_6 (QCH_6 h (by decide)) (by decide)) (by decide)) (by decide)) (by decide)) (by decide)
theorem q_398 [Inhabited fz_] (h : QSQ (chQ N) N') : Ex_ 6 398 [.inr (.inr 6)] N [] N' := fun Qr Qt g => t_398 fun V hV hW => b_398_0 (Tr_mono _) hV hW _ (h V Qr Qt hV hW g)
theorem CR_S [Inhabited fz_] (h : CR 1 M N a) (h0 : M 0 92 = 0) (hE : EVT M N) : CHS M N := by
  obtain ⟨_, ⟨c1, c2, c3, _⟩, n2, n3, _, n5, _⟩ := h
  have sd : ∀ u v, SDR M u v → SDJ M u v := fun u v z => by
    rcases z with z | z | z
    · exact .inl z
    · exact .inr z
    · exact absurd h0 z.2.2
  refine ⟨c1, c2, c3, fun k k0 k1 => (n2 k k0 k1).2.2.2, fun l l0 l1 => ?_, fun k k0 k1 => ?_, hE⟩
  · have := n3 l l0 l1
    exact ⟨sd _ _ this.1, sd _ _ this.2.1, this.2.2⟩
  · have := n5 k k0 k1
    exact ⟨this.1, this.2.1, this.2.2.1⟩
theorem CHS_96 [Inhabited fz_] (h : CHS M N) : CHS (up_ M 0 96 v) N := by
  unfold CHS LJ9 SDJ EVT lvL rwL at *
  rw [upo (j := 77) (by decide), upo (j := 76) (by decide), upo (j := 78) (by decide), upo (j := 35) (by decide), upo (j := 36) (by decide), up_ne (r' := 45) (by decide), up_ne (r' := 46) (by decide), up_ne (r' := 47) (by decide), up_ne (r' := 48) (by decide), up_ne (r' := 49) (by decide), up_ne (r' := 50) (by decide), up_ne (r' := 51) (by decide), up_ne (r' := 52) (by decide), up_ne (r' := 53) (by decide), up_ne (r' := 23) (by decide)]
  exact h
theorem j_92 [Inhabited fz_] (h : CPR M N) : SM2 1 92 [.inr (.inr 0), .inl x1] 1 413 [.inr (.inr 6), .inl x1] M N := by
  by_cases c0 : x1 = 0
  · exact ⟨M 0 96, fun Qr Qt g => t_92 fun V hV hW => b_92_0 (Tr_mono _) hV hW _ _ (by rw [if_pos c0]; exact g), fun Qr Qt g => t_413 fun V hV hW => b_413_0 (Tr_mono _) hV hW _ _ (by rw [if_pos c0, ← h.2.1]; exact g)⟩
  · by_cases c1 : x1 = 1
    · exact ⟨M 0 97, fun Qr Qt g => t_92 fun V hV hW => b_92_0 (Tr_mono _) hV hW _ _ (by rw [if_neg c0, if_pos c1]; exact g), fun Qr Qt g => t_413 fun V hV hW => b_413_0 (Tr_mono _) hV hW _ _ (by rw [if_neg c0, if_pos c1, ← h.2.2]; exact g)⟩
    · exact ⟨-1, fun Qr Qt g => t_92 fun V hV hW => b_92_0 (Tr_mono _) hV hW _ _ (by rw [if_neg c0, if_neg c1]; exact g), fun Qr Qt g => t_413 fun V hV hW => b_413_0 (Tr_mono _) hV hW _ _ (by rw [if_neg c0, if_neg c1]; exact g)⟩
/-- what is said of a chart -/
def CHPc (M N : mm_) (x1 v : Int) (M' : mm_) : Prop := ∃ N', Ex_ 7 397 [.inr (.inr 6), .inl x1] N [.inl v] N' ∧ XCH M M' ∧ QCH N N' ∧ CPR M' N' ∧ TAP M' N' ∧ BY M' 74 ∧ BY N' 146
theorem j_72 [Inhabited fz_] (hT : TAP M N) (hP : CPR M N) (hro : RO_ M) (hwd : Wd_ N) (b9 : BY M 9) (b145 : BY N 145) (b74 : BY M 74) (b146 : BY N 146) (hr : (M 0 4 = 0 ∧ N 6 126 = 0) ∨ ((M 0 4 = 1 ∧ N 6 126 = 1) ∧ NMQ M N ∧ EVT M N)) : Tr_ wd0 pg0 13 72 [.inr (.inr 0), .inl x1] M (ri_ fun v M' => CHPc M N x1 v M') (fun _ _ => False) := by
  haveI ig : Inhabited gh_ := ⟨(0, fun _ => 0, 0, 0)⟩
  obtain ⟨⟨t1, t2, t3⟩, t4⟩ := hT
  refine t_72 fun V hV hW => b_72_0 (Tr_mono _) hV hW _ _ ?_
  by_cases c0 : x1 < 0
  · rw [if_pos c0]
    exact ri_i ⟨N, fun Qr Qt g => t_397 fun V hV hW => b_397_0 (Tr_mono _) hV hW _ _ (by rw [if_pos c0]; exact g), XCH_rf, QCH_rf, hP, ⟨⟨t1, t2, t3⟩, t4⟩, b74, b146⟩
  rw [if_neg c0]
  by_cases c1 : x1 ≤ M 0 6
  case neg =>
    rw [if_neg c1]
    exact ri_i ⟨N, fun Qr Qt g => t_397 fun V hV hW => b_397_0 (Tr_mono _) hV hW _ _ (by rw [if_neg c0, if_neg (by omega)]; exact g), XCH_rf, QCH_rf, hP, ⟨⟨t1, t2, t3⟩, t4⟩, b74, b146⟩
  rw [if_pos c1]
  intro _
  -- Q keeps the text
  have q217 : Ex_ 6 217 [.inr (.inr 6), .inl x1] N [] (up_ (up_ (wr_ N 146 (cp_ (N 145) (N 146) x1)) 6 4 x1) 6 3 0) := Ev fun Qt => s_217 (d := 5) (by omega) (by omega) b145 rfl
  have f146 : (up_ (up_ (wr_ N 146 (cp_ (N 145) (N 146) x1)) 6 4 x1) 6 3 0) 146 = cp_ (N 145) (N 146) x1 := by rw [up_ne (by decide), up_ne (by decide), wr_same]
  have fr : ∀ r, r ∉ [6, 146] → (up_ (up_ (wr_ N 146 (cp_ (N 145) (N 146) x1)) 6 4 x1) 6 3 0) r = N r := fun r hr => by
    simp only [List.mem_cons, List.not_mem_nil, or_false, not_or] at hr
    rw [up_ne hr.1, up_ne hr.1, wr_ne hr.2]
  have f6 : ∀ i, i ∉ [3, 4] → (up_ (up_ (wr_ N 146 (cp_ (N 145) (N 146) x1)) 6 4 x1) 6 3 0) 6 i = N 6 i := fun i hi => by
    simp only [List.mem_cons, List.not_mem_nil, or_false, not_or] at hi
    rw [upo hi.1, upo hi.2, wr_ne (by decide)]
  have f4 : (up_ (up_ (wr_ N 146 (cp_ (N 145) (N 146) x1)) 6 4 x1) 6 3 0) 6 4 = x1 ∧ (up_ (up_ (wr_ N 146 (cp_ (N 145) (N 146) x1)) 6 4 x1) 6 3 0) 6 3 = 0 := ⟨by rw [upo (by decide), up_at], up_at⟩
  generalize (up_ (up_ (wr_ N 146 (cp_ (N 145) (N 146) x1)) 6 4 x1) 6 3 0) = N1 at *
  have b1 : BY N1 146 := fun i i0 i1 => by
    rw [f146]; unfold cp_; split
    · exact b145 i i0 i1
    · exact b146 i i0 i1
  have QF1 : QCH N N1 := ⟨fun r hr => fr r (fun z => hr (by simp only [List.mem_cons, List.not_mem_nil, or_false] at z; rcases z with rfl | rfl <;> decide)), fun i hi => f6 i (fun z => hi (by simp only [List.mem_cons, List.not_mem_nil, or_false] at z; rcases z with rfl | rfl <;> decide))⟩
  have pq : ∀ (V : vv_) (Qr : qr_) (Qt : qt_), Cl_ wd0 (Tr_ wd0 pg0 6) V Qr Qt m_397 → Wk_ V → (bl_ (N1 6 126) → (if N1 6 126 = 0 then Qr [.inl (-1)] N1 else bl_ 0 ∧ Tr_ wd0 pg0 6 219 [.inr (.inr 6)] (up_ (up_ N1 6 13 0) 6 16 0) (rv_ fun M2 => Tr_ wd0 pg0 6 398 [.inr (.inr 6)] M2 (rv_ fun M3 => (if M3 6 13 = 0 then bl_ 1 ∧ Tr_ wd0 pg0 6 398 [.inr (.inr 6)] (up_ M3 6 16 1) (rv_ fun M4 => bl_ 0 ∧ V 68 [rr 6, ii x1] [] (up_ M4 6 16 0)) Qt else V 68 [rr 6, ii x1] [] M3)) Qt) Qt)) → V 0 [rr 6, ii x1] [] N := fun V Qr Qt hV hW g => b_397_0 (Tr_mono _) hV hW _ _ (by
    rw [if_neg c0, if_pos (by omega)]
    exact q217 _ _ (rv_i g))
  have n126 : N1 6 126 = N 6 126 := f6 126 (by decide)
  rcases hr with ⟨r0, r1⟩ | ⟨⟨r0, r1⟩, hN, hE⟩
  · rw [if_pos r0]
    refine ri_i ⟨N1, fun Qr Qt g => t_397 fun V hV hW => pq V Qr Qt hV hW fun _ => ?_, XCH_0 XCH_rf (by decide), QF1, ⟨?_, ?_, ?_⟩, ⟨⟨?_, ?_⟩, fun i i0 i1 => ?_⟩, ?_, b1⟩
    · rw [if_pos (by rw [n126]; exact r1)]; exact g
    · rw [upo (by decide), f6 119 (by decide)]; exact hP.1
    · rw [upo (by decide), f6 187 (by decide)]; exact hP.2.1
    · rw [upo (by decide), f6 188 (by decide)]; exact hP.2.2
    · rw [up_at, f4.2]
    · rw [up_at]; omega
    · rw [up_at] at i1; omega
    · unfold BY; rw [up_ne (by decide)]; exact b74
  · rw [if_neg (by omega)]
    -- Q cuts it into tokens
    have e146 : (up_ (up_ N1 6 13 0) 6 16 0) 146 = cp_ (N 145) (N 146) x1 := by rw [up_ne (by decide), up_ne (by decide)]; exact f146
    have e4 : (up_ (up_ N1 6 13 0) 6 16 0) 6 4 = x1 := by rw [upo (by decide), upo (by decide)]; exact f4.1
    obtain ⟨N2, mq, ⟨g1, g2, g3⟩, h219⟩ := s_219e (M := up_ (up_ N1 6 13 0) 6 16 0) (by rw [e4]; (clear hP hro hwd b9 b145 b74 b146 t4 t1 t2 t3 hV hW c1 q217 f146 fr f6 b1 QF1 pq n126 r0 r1 hN hE e146; lia)) (by rw [e4]; (clear hP hro hwd b9 b145 b74 b146 t4 hV hW c0 q217 f146 fr f6 b1 QF1 pq n126 r0 r1 hN hE e146; lia)) (by unfold Wd_; rw [up_ne (by decide), up_ne (by decide), fr 148 (by decide)]; exact hwd) (by rw [e146, ← f146]; exact b1)
    rw [e146, e4] at g3
    have q219 : Ex_ 6 219 [.inr (.inr 6)] (up_ (up_ N1 6 13 0) 6 16 0) [] N2 := Ev fun Qt => h219 1 _ Qt rfl
    have z13 : N2 6 13 = 0 := by rw [g2 13 (by decide), upo (by decide), up_at]
    have z16 : N2 6 16 = 0 := by rw [g2 16 (by decide), up_at]
    have zf : ∀ i, i ∉ [11, 13, 16] → N2 6 i = N1 6 i := fun i hi => by
      simp only [List.mem_cons, List.not_mem_nil, or_false, not_or] at hi
      rw [g2 i hi.1, upo hi.2.2, upo hi.2.1]
    have zr : ∀ r, r ∉ [6, 149, 150, 151] → N2 r = N1 r := fun r hr => by
      have h6 : r ≠ 6 := by rintro rfl; exact hr (by decide)
      rw [g1 r hr, up_ne h6, up_ne h6]
    have QF2 : QCH N N2 := QCH_tr QF1 ⟨fun r hr => zr r (fun z => hr (by simp only [List.mem_cons, List.not_mem_nil, or_false] at z; rcases z with rfl | rfl | rfl | rfl <;> decide)), fun i hi => zf i (fun z => hi (by simp only [List.mem_cons, List.not_mem_nil, or_false] at z; rcases z with rfl | rfl | rfl <;> decide))⟩
    have b2 : BY N2 146 := by unfold BY; rw [zr 146 (by decide)]; exact b1
    -- X reads the tokens
    have x9 : (up_ M 0 6 0) 9 = M 9 := up_ne (by decide)
    have x74 : (up_ M 0 6 0) 74 = M 74 := up_ne (by decide)
    refine s_191b (d := 5) (M := up_ M 0 6 0) (by (clear hP hro hwd b9 b145 b74 b146 t4 t1 t2 t3 hV hW c1 q217 f146 fr f6 b1 QF1 pq n126 r0 r1 hN hE e146 h219 g1 g2 g3 q219 z13 z16 zf zr QF2 b2 x9 x74; lia)) (by (clear hP hro hwd b9 b145 b74 b146 t4 hV hW c0 q217 f146 fr f6 b1 QF1 pq n126 r0 r1 hN hE e146 h219 g1 g2 g3 q219 z13 z16 zf zr QF2 b2 x9 x74; omega)) (by unfold RO_; rw [up_ne (by decide), up_ne (by decide), up_ne (by decide), up_ne (by decide)]; exact hro) (by rw [x9]; exact b9) (by rw [x74]; exact b74) (fun M1 mx f1 e74 _ tx _ m1 _ m3 => ?_)
    rw [x9, x74] at e74
    have by74 : BY M1 74 := fun i i0 i1 => by
      rw [e74]; unfold cp_; split
      · exact b9 i i0 i1
      · exact b74 i i0 i1
    have ag : Ag_ (cp_ (N 145) (N 146) x1) (M1 74) x1 := fun i i0 i1 => by
      rw [e74]; unfold cp_; rw [if_pos ⟨i0, i1⟩, if_pos ⟨i0, i1⟩]; exact (t4 i i0 (by omega)).symm
    have tk : TksB M1 N2 := Tks_iB (by (clear hP hro hwd b9 b145 b74 b146 t4 t1 t2 t3 hV hW c1 q217 f146 fr f6 b1 QF1 pq n126 r0 r1 hN hE e146 h219 g1 g2 g3 q219 z13 z16 zf zr QF2 b2 x9 x74 f1 e74 tx m1 m3 by74 ag; lia)) (by (clear hP hro hwd b9 b145 b74 b146 t4 hV hW c0 q217 f146 fr f6 b1 QF1 pq n126 r0 r1 hN hE e146 h219 g1 g2 g3 q219 z13 z16 zf zr QF2 b2 x9 x74 f1 e74 tx m1 m3 by74 ag; lia)) by74 ag tx m1 m3 g3
    have th := Tks_hB (by omega) (by omega) by74 ag tx m1 m3 g3
    show XSQ (up_ (up_ (up_ (up_ (up_ (up_ (up_ (up_ M1 0 75 0) 0 76 0) 0 77 0) 0 78 0) 0 79 0) 0 94 (-1)) 0 95 0) 0 92 0) _ _
    have y0 : ∀ r, r ≠ 0 → (up_ (up_ (up_ (up_ (up_ (up_ (up_ (up_ M1 0 75 0) 0 76 0) 0 77 0) 0 78 0) 0 79 0) 0 94 (-1)) 0 95 0) 0 92 0) r = M1 r := fun r hr => by rw [up_ne hr, up_ne hr, up_ne hr, up_ne hr, up_ne hr, up_ne hr, up_ne hr, up_ne hr]
    have y1 : ∀ i, i ∉ [75, 76, 77, 78, 79, 92, 94, 95] → (up_ (up_ (up_ (up_ (up_ (up_ (up_ (up_ M1 0 75 0) 0 76 0) 0 77 0) 0 78 0) 0 79 0) 0 94 (-1)) 0 95 0) 0 92 0) 0 i = M1 0 i := fun i hi => by
      simp only [List.mem_cons, List.not_mem_nil, or_false, not_or] at hi
      obtain ⟨h1, h2, h3, h4, h5, h6, h7, h8⟩ := hi
      rw [upo h6, upo h8, upo h7, upo h5, upo h4, upo h3, upo h2, upo h1]
    have yk : (up_ (up_ (up_ (up_ (up_ (up_ (up_ (up_ M1 0 75 0) 0 76 0) 0 77 0) 0 78 0) 0 79 0) 0 94 (-1)) 0 95 0) 0 92 0) 0 75 = 0 ∧ (up_ (up_ (up_ (up_ (up_ (up_ (up_ (up_ M1 0 75 0) 0 76 0) 0 77 0) 0 78 0) 0 79 0) 0 94 (-1)) 0 95 0) 0 92 0) 0 76 = 0 ∧ (up_ (up_ (up_ (up_ (up_ (up_ (up_ (up_ M1 0 75 0) 0 76 0) 0 77 0) 0 78 0) 0 79 0) 0 94 (-1)) 0 95 0) 0 92 0) 0 77 = 0 ∧ (up_ (up_ (up_ (up_ (up_ (up_ (up_ (up_ M1 0 75 0) 0 76 0) 0 77 0) 0 78 0) 0 79 0) 0 94 (-1)) 0 95 0) 0 92 0) 0 78 = 0 ∧ (up_ (up_ (up_ (up_ (up_ (up_ (up_ (up_ M1 0 75 0) 0 76 0) 0 77 0) 0 78 0) 0 79 0) 0 94 (-1)) 0 95 0) 0 92 0) 0 79 = 0 ∧ (up_ (up_ (up_ (up_ (up_ (up_ (up_ (up_ M1 0 75 0) 0 76 0) 0 77 0) 0 78 0) 0 79 0) 0 94 (-1)) 0 95 0) 0 92 0) 0 94 = -1 ∧ (up_ (up_ (up_ (up_ (up_ (up_ (up_ (up_ M1 0 75 0) 0 76 0) 0 77 0) 0 78 0) 0 79 0) 0 94 (-1)) 0 95 0) 0 92 0) 0 95 = 0 ∧ (up_ (up_ (up_ (up_ (up_ (up_ (up_ (up_ M1 0 75 0) 0 76 0) 0 77 0) 0 78 0) 0 79 0) 0 94 (-1)) 0 95 0) 0 92 0) 0 92 = 0 := by
      refine ⟨?_, ?_, ?_, ?_, ?_, ?_, ?_, up_at⟩
      · rw [upo (by decide), upo (by decide), upo (by decide), upo (by decide), upo (by decide), upo (by decide), upo (by decide), up_at]
      · rw [upo (by decide), upo (by decide), upo (by decide), upo (by decide), upo (by decide), upo (by decide), up_at]
      · rw [upo (by decide), upo (by decide), upo (by decide), upo (by decide), upo (by decide), up_at]
      · rw [upo (by decide), upo (by decide), upo (by decide), upo (by decide), up_at]
      · rw [upo (by decide), upo (by decide), upo (by decide), up_at]
      · rw [upo (by decide), upo (by decide), up_at]
      · rw [upo (by decide), up_at]
    generalize (up_ (up_ (up_ (up_ (up_ (up_ (up_ (up_ M1 0 75 0) 0 76 0) 0 77 0) 0 78 0) 0 79 0) 0 94 (-1)) 0 95 0) 0 92 0) = M2 at *
    have m0 : ∀ r, r ∉ [3, 74, 75, 76, 77, 78] → M1 r = (up_ M 0 6 0) r := f1
    have XF2 : XCH M M2 := ⟨fun r hr => by
      have h0 : r ≠ 0 := by rintro rfl; exact hr (by decide)
      rw [y0 r h0, m0 r (fun z => hr (by simp only [List.mem_cons, List.not_mem_nil, or_false] at z; rcases z with rfl | rfl | rfl | rfl | rfl | rfl <;> decide)), up_ne h0], fun i hi => by
      rw [y1 i (fun z => hi (by simp only [List.mem_cons, List.not_mem_nil, or_false] at z; rcases z with rfl | rfl | rfl | rfl | rfl | rfl | rfl | rfl <;> decide)), m0 0 (by decide), upo (by rintro rfl; exact hi (by decide))]⟩
    have by2 : BY M2 74 := by unfold BY; rw [y0 74 (by decide)]; exact by74
    have tk2 : ∀ N', (∀ r, r ∈ [149, 150, 151] → N' r = N2 r) → TksB M2 N' := fun N' hh => TksB_c tk (fun r hr => y0 r (by rintro rfl; exact absurd hr (by decide))) hh
    have sg2 : ∀ N', (∀ r, r ∈ [149, 150, 151, 152] → N' r = N2 r) → N' 6 17 = N2 6 17 → SGP M2 N' := fun N' hh h17 => by
      refine NMQ_S ?_ (tk2 N' (fun r hr => hh r (by simp only [List.mem_cons, List.not_mem_nil, or_false] at hr ⊢; rcases hr with rfl | rfl | rfl <;> decide))) (fun i hi hk => ?_) by2
      · unfold NMQ
        rw [XF2.1 4 (by decide), XF2.1 42 (by decide), XF2.1 43 (by decide), hh 152 (by decide), h17, zf 17 (by decide), f6 17 (by decide), zr 152 (by decide), fr 152 (by decide)]
        exact hN
      · rw [y0 75 (by decide)] at hk
        have := th i (gdB_c hi (y0 75 (by decide)).symm) hk
        rw [hh 151 (by decide), y0 74 (by decide), y0 76 (by decide), y0 77 (by decide)]
        exact this
    have hE2 : ∀ M' N', XTd M2 M' → QCH N N' → EVT M' N' := fun M' N' hx hq => by
      unfold EVT at *
      rw [hx.2 35 (by decide), hx.2 36 (by decide), hx.1 23 (by decide), XF2.2 35 (by decide), XF2.2 36 (by decide), XF2.1 23 (by decide), hq.2 142 (by decide), hq.2 143 (by decide), hq.1 240 (by decide)]
      exact hE
    have q1 : CR 0 M2 (chQ N2) 0 := CR_0 (tk2 _ (fun r hr => chQ_r (by rintro rfl; exact absurd hr (by decide)))) yk.1 ⟨yk.2.1, yk.2.2.1, yk.2.2.2.1, yk.2.2.2.2.1, yk.2.2.2.2.2.1, yk.2.2.2.2.2.2.1, yk.2.2.2.2.2.2.2⟩ ⟨chQ_k.1, by rw [chQ_6 (by decide)]; exact z13, by rw [chQ_6 (by decide)]; exact z16, chQ_k.2.1, chQ_k.2.2.1, chQ_k.2.2.2.1, chQ_k.2.2.2.2⟩ (.inl rfl)
    have s1 : SGP M2 (chQ N2) := sg2 _ (fun r hr => chQ_r (by rintro rfl; exact absurd hr (by decide))) (chQ_6 (by decide))
    have m06 : M2 0 6 = 0 := by rw [y1 6 (by decide), m0 0 (by decide), up_at]
    -- how it ends with a fault
    have tapE : ∀ M' N', M' 0 6 = 0 → N' 6 3 = 0 → TAP M' N' := fun M' N' e1 e2 => ⟨⟨by rw [e1, e2], by (clear hP hro hwd b9 b145 b74 b146 t4 t1 t2 t3 hV hW c0 c1 q217 f146 fr f6 f4 b1 QF1 pq n126 r0 r1 hN hE e146 e4 h219 g1 g2 g3 q219 z13 z16 zf zr QF2 b2 x9 x74 f1 e74 tx m1 m3 by74 ag tk th y0 y1 yk m0 XF2 by2 tk2 sg2 hE2 q1 s1 m06 e2; omega), by (clear hP hro hwd b9 b145 b74 b146 t4 t1 t2 t3 hV hW c0 c1 q217 f146 fr f6 f4 b1 QF1 pq n126 r0 r1 hN hE e146 e4 h219 g1 g2 g3 q219 z13 z16 zf zr QF2 b2 x9 x74 f1 e74 tx m1 m3 by74 ag tk th y0 y1 yk m0 XF2 by2 tk2 sg2 hE2 q1 s1 m06 e2; omega)⟩, fun i i0 i1 => by omega⟩
    have n23 : N2 6 3 = 0 := by rw [zf 3 (by decide)]; exact f4.2
    refine ch_text q1 s1 yk.2.2.2.2.1 (fun M3 hx hall => ?_) (fun M3 hx ⟨N3, h3, hF, hq3⟩ => ?_)
    · -- both passes
      obtain ⟨N3, a3, h3, C3, hq3⟩ := hall 0 (chQ N2) q1 s1
      have QF3 : QCH N N3 := QCH_tr (chQ_ch QF2) (QTd_ch hq3)
      have z133 : N3 6 13 = 0 := C3.1.2.2.2.2 rfl
      have k149 : ∀ r, r ∈ [149, 150, 151, 152] → N3 r = N2 r := fun r hr => by
        rw [hq3.1 r (fun z => by simp only [List.mem_cons, List.not_mem_nil, or_false] at hr; rcases hr with rfl | rfl | rfl | rfl <;> exact absurd z (by decide)), chQ_r (by rintro rfl; exact absurd hr (by decide))]
      have kc : ∀ r, r ∈ [149, 150, 151, 152] → chQ (up_ N3 6 16 1) r = N2 r := fun r hr => by
        have h6 : r ≠ 6 := by rintro rfl; exact absurd hr (by decide)
        rw [chQ_r h6, up_ne h6]; exact k149 r hr
      have q2 : CR 1 M2 (chQ (up_ N3 6 16 1)) 0 := CR_0 (tk2 _ (fun r hr => kc r (by simp only [List.mem_cons, List.not_mem_nil, or_false] at hr ⊢; rcases hr with rfl | rfl | rfl <;> decide))) yk.1 ⟨yk.2.1, yk.2.2.1, yk.2.2.2.1, yk.2.2.2.2.1, yk.2.2.2.2.2.1, yk.2.2.2.2.2.2.1, yk.2.2.2.2.2.2.2⟩ ⟨chQ_k.1, by rw [chQ_6 (by decide), upo (by decide)]; exact z133, by rw [chQ_6 (by decide), up_at], chQ_k.2.1, chQ_k.2.2.1, chQ_k.2.2.2.1, chQ_k.2.2.2.2⟩ (.inr rfl)
      have s2 : SGP M2 (chQ (up_ N3 6 16 1)) := sg2 _ kc (by rw [chQ_6 (by decide), upo (by decide), hq3.2 17 (by decide), chQ_6 (by decide)])
      obtain ⟨N4, a4, h4, C4, hq4⟩ := hall 1 (chQ (up_ N3 6 16 1)) q2 s2
      have QF4 : QCH N N4 := QCH_tr (chQ_ch (QCH_6 QF3 (by decide))) (QTd_ch hq4)
      have XF3 : XCH M M3 := XCH_tr XF2 (XTd_ch hx)
      have nt := C4.2.2.2.2.2.2
      have nt2 := nt.2 rfl
      have m36 : M3 0 6 = 0 := by rw [hx.2 6 (by decide)]; exact m06
      have n43 : N4 6 3 = 0 := by rw [hq4.2 3 (by decide), chQ_6 (by decide), upo (by decide), hq3.2 3 (by decide), chQ_6 (by decide)]; exact n23
      have b3 : BY M3 74 := by unfold BY; rw [hx.1 74 (by decide)]; exact by2
      have b4 : BY N4 146 := by unfold BY; rw [hq4.1 146 (by decide), chQ_r (by decide), up_ne (by decide), hq3.1 146 (by decide), chQ_r (by decide)]; exact b2
      have pq2 : ∀ (V : vv_) (Qr : qr_) (Qt : qt_), Cl_ wd0 (Tr_ wd0 pg0 6) V Qr Qt m_397 → Wk_ V → V 68 [rr 6, ii x1] [] (up_ N4 6 16 0) → V 0 [rr 6, ii x1] [] N := fun V Qr Qt hV hW g => pq V Qr Qt hV hW fun _ => by
        rw [if_neg (by rw [n126]; (clear hP hro hwd b9 b145 b74 b146 t4 t1 t2 t3 c0 c1 q217 f146 fr f6 f4 b1 QF1 pq n126 r0 hN hE e146 e4 h219 g1 g2 g3 q219 z13 z16 zf zr QF2 b2 x9 x74 f1 e74 tx m1 m3 by74 ag tk th y0 y1 yk m0 XF2 by2 tk2 sg2 hE2 q1 s1 m06 tapE n23 hx hall h3 C3 hq3 QF3 z133 k149 kc q2 s2 h4 C4 hq4 QF4 XF3 nt nt2 m36 n43 b3 b4 hV hW g; omega))]
        refine ⟨.inl rfl, q219 _ _ (rv_i (q_398 h3 _ _ (rv_i ?_)))⟩
        rw [if_pos z133]
        exact ⟨.inr rfl, q_398 h4 _ _ (rv_i ⟨.inl rfl, g⟩)⟩
      by_cases c92 : M3 0 92 = 0
      · rw [if_pos c92]
        have C5 : CHS M3 (up_ N4 6 16 0) := by
          have := CR_S C4 c92 (hE2 M3 N4 hx QF4)
          unfold CHS LJ9 SDJ EVT lvL rwL at *
          rw [upo (j := 170) (by decide), upo (j := 171) (by decide), upo (j := 172) (by decide), upo (j := 142) (by decide), upo (j := 143) (by decide), up_ne (r' := 255) (by decide), up_ne (r' := 256) (by decide), up_ne (r' := 257) (by decide), up_ne (r' := 258) (by decide), up_ne (r' := 259) (by decide), up_ne (r' := 260) (by decide), up_ne (r' := 261) (by decide), up_ne (r' := 262) (by decide), up_ne (r' := 240) (by decide)]
          exact this
        obtain ⟨r, M', N', hr, fx, fq, e188, e187, x85, q405⟩ := j_85 (CHS_96 (v := M3 0 76) C5)
        rw [upo (by decide)] at e187
        have QF5 : QCH N N' := QCH_tr (QCH_6 QF4 (by decide : (16 : Int) ∈ qchI) (v := 0)) ⟨fun q hq => fq.1 q (fun z => hq (by simp only [List.mem_cons, List.not_mem_nil, or_false] at z; rcases z with rfl | rfl <;> decide)), fun i hi => fq.2 i (fun z => hi (by simp only [List.mem_cons, List.not_mem_nil, or_false] at z; rcases z with rfl | rfl | rfl <;> decide))⟩
        have XF5 : XCH M M' := XCH_tr (XCH_0 XF3 (by decide : (96 : Int) ∈ xchI) (v := M3 0 76)) (XJ_ch fx)
        have fin : ∀ y, (r ≤ 0 ∧ y = 0 ∨ ¬ r ≤ 0 ∧ y = 1) → CHPc M N x1 y (up_ M' 0 97 r) := fun y hy => by
          refine ⟨N', fun Qr Qt g => t_397 fun V hV hW => pq2 V Qr Qt hV hW (b_397_68 (Tr_mono _) hV hW _ _ ?_), XCH_0 XF5 (by decide), QF5, ⟨?_, ?_, ?_⟩, tapE _ _ ?_ ?_, ?_, ?_⟩
          · rw [if_pos (by rw [upo (by decide)]; (clear hP hro hwd b9 b145 b74 b146 t4 t1 t2 t3 c0 c1 q217 f146 fr f6 f4 b1 QF1 pq n126 r0 r1 hN hE e146 e4 h219 g1 g2 g3 q219 z13 z16 zf zr QF2 b2 x9 x74 f1 e74 tx m1 m3 by74 ag tk th y0 y1 yk m0 XF2 by2 tk2 sg2 hE2 q1 s1 m06 tapE n23 hx hall h3 C3 hq3 QF3 z133 k149 kc q2 s2 h4 C4 hq4 QF4 XF3 nt m36 n43 b3 b4 pq2 C5 hr fx fq e188 e187 x85 q405 QF5 XF5 hy g hV hW; omega))]
            refine q405 _ _ (rv_i ?_)
            rw [e188]
            rcases hy with ⟨h1, rfl⟩ | ⟨h1, rfl⟩
            · rw [if_pos h1]; exact g
            · rw [if_neg h1]; exact g
          · rw [upo (by decide), fx.2 71 (by decide), upo (by decide), hx.2 71 (by decide), y1 71 (by decide), m0 0 (by decide), upo (by decide), fq.2 119 (by decide), upo (by decide), hq4.2 119 (by decide), chQ_6 (by decide), upo (by decide), hq3.2 119 (by decide), chQ_6 (by decide), zf 119 (by decide), f6 119 (by decide)]; exact hP.1
          · rw [upo (by decide), fx.2 96 (by decide), up_at, e187]
          · rw [up_at, e188]
          · rw [upo (by decide), fx.2 6 (by decide), upo (by decide)]; exact m36
          · rw [fq.2 3 (by decide), upo (by decide)]; exact n43
          · unfold BY; rw [up_ne (by decide), fx.1 74 (by decide), up_ne (by decide)]; exact b3
          · unfold BY; rw [fq.1 146 (by decide), up_ne (by decide)]; exact b4
        refine Ex_le (d := 5) (by decide) x85 _ _ (ri_i ?_)
        by_cases cr : r ≤ 0
        · rw [if_pos cr]; exact ri_i (fin 0 (.inl ⟨cr, rfl⟩))
        · rw [if_neg cr]; exact ri_i (fin 1 (.inr ⟨cr, rfl⟩))
      · rw [if_neg c92]
        refine ri_i ⟨up_ (up_ N4 6 16 0) 6 119 (N4 6 14), fun Qr Qt g => t_397 fun V hV hW => pq2 V Qr Qt hV hW (b_397_68 (Tr_mono _) hV hW _ _ ?_), XCH_0 XF3 (by decide), QCH_6 (QCH_6 QF4 (by decide)) (by decide), ⟨?_, ?_, ?_⟩, tapE _ _ ?_ ?_, ?_, ?_⟩
        · rw [upo (by decide), upo (by decide), if_neg (by have := nt.1; (clear hP hro hwd b9 b145 b74 b146 t4 t1 t2 t3 c0 c1 q217 f146 fr f6 f4 b1 QF1 pq n126 r0 r1 hN hE e146 e4 h219 g1 g2 g3 q219 z13 z16 zf zr QF2 b2 x9 x74 f1 e74 tx m1 m3 by74 ag tk th y0 y1 yk m0 XF2 by2 tk2 sg2 hE2 q1 s1 m06 tapE n23 hx hall h3 C3 hq3 QF3 z133 k149 kc q2 s2 h4 C4 hq4 QF4 XF3 nt m36 n43 b3 b4 pq2 g hV hW; omega)), nt2.1]; exact g
        · rw [up_at, up_at]; exact (nt2.2 c92).symm
        · rw [upo (by decide), hx.2 96 (by decide), y1 96 (by decide), m0 0 (by decide), upo (by decide), upo (by decide), upo (by decide), hq4.2 187 (by decide), chQ_6 (by decide), upo (by decide), hq3.2 187 (by decide), chQ_6 (by decide), zf 187 (by decide), f6 187 (by decide)]; exact hP.2.1
        · rw [upo (by decide), hx.2 97 (by decide), y1 97 (by decide), m0 0 (by decide), upo (by decide), upo (by decide), upo (by decide), hq4.2 188 (by decide), chQ_6 (by decide), upo (by decide), hq3.2 188 (by decide), chQ_6 (by decide), zf 188 (by decide), f6 188 (by decide)]; exact hP.2.2
        · rw [upo (by decide)]; exact m36
        · rw [upo (by decide), upo (by decide)]; exact n43
        · unfold BY; rw [up_ne (by decide)]; exact b3
        · unfold BY; rw [up_ne (by decide), up_ne (by decide)]; exact b4
    · -- a fault of the first pass
      refine ⟨.inl rfl, b_72_119_7 (Tr_mono _) hV hW _ _ (ri_i ⟨up_ N3 6 119 (N3 6 14), fun Qr Qt g => t_397 fun V hV hW => pq V Qr Qt hV hW fun _ => ?_, XCH_0 (XCH_tr XF2 (XTd_ch hx)) (by decide), QCH_6 (QCH_tr (chQ_ch QF2) (QTd_ch hq3)) (by decide), ⟨?_, ?_, ?_⟩, tapE _ _ ?_ ?_, ?_, ?_⟩)⟩
      · rw [if_neg (by rw [n126]; (clear hP hro hwd b9 b145 b74 b146 t4 t1 t2 t3 c0 c1 q217 f146 fr f6 f4 b1 QF1 pq n126 r0 hN hE e146 e4 h219 g1 g2 g3 q219 z13 z16 zf zr QF2 b2 x9 x74 f1 e74 tx m1 m3 by74 ag tk th y0 y1 yk m0 XF2 by2 tk2 sg2 hE2 q1 s1 m06 tapE n23 hx h3 hF hq3 g hV hW; omega))]
        refine ⟨.inl rfl, q219 _ _ (rv_i (q_398 h3 _ _ (rv_i ?_)))⟩
        have p13 := hF.1.1
        rw [if_neg (by omega)]
        refine b_397_68 (Tr_mono _) hV hW _ _ ?_
        rw [if_neg (by (clear hP hro hwd b9 b145 b74 b146 t4 t1 t2 t3 c0 c1 q217 f146 fr f6 f4 b1 QF1 pq n126 r0 r1 hN hE e146 e4 h219 g1 g2 g3 q219 z13 z16 zf zr QF2 b2 x9 x74 f1 e74 tx m1 m3 by74 ag tk th y0 y1 yk m0 XF2 by2 tk2 sg2 hE2 q1 s1 m06 tapE n23 hx h3 hF hq3 g hV hW; omega)), hF.2.1]; exact g
      · rw [up_at, up_at]; exact hF.2.2.symm
      · rw [upo (by decide), hx.2 96 (by decide), y1 96 (by decide), m0 0 (by decide), upo (by decide), upo (by decide), hq3.2 187 (by decide), chQ_6 (by decide), zf 187 (by decide), f6 187 (by decide)]; exact hP.2.1
      · rw [upo (by decide), hx.2 97 (by decide), y1 97 (by decide), m0 0 (by decide), upo (by decide), upo (by decide), hq3.2 188 (by decide), chQ_6 (by decide), zf 188 (by decide), f6 188 (by decide)]; exact hP.2.2
      · rw [upo (by decide), hx.2 6 (by decide)]; exact m06
      · rw [upo (by decide), hq3.2 3 (by decide), chQ_6 (by decide)]; exact n23
      · unfold BY; rw [up_ne (by decide), hx.1 74 (by decide)]; exact by2
      · unfold BY; rw [up_ne (by decide), hq3.1 146 (by decide), chQ_r (by decide)]; exact b2
end CHb
end T440_ch
section T441_fd
/-! feed, place, warning (X 52, 53, 55, 56 | Q 214, 215, 319, 320) -/
/-- only the tape -/
def XTP (M M' : mm_) : Prop := (∀ r, r ∉ [0, 9] → M' r = M r) ∧ ∀ i, i ≠ 6 → M' 0 i = M 0 i
def QTP (N N' : mm_) : Prop := (∀ r, r ∉ [6, 145] → N' r = N r) ∧ ∀ i, i ≠ 3 → N' 6 i = N 6 i
def TPB (M N : mm_) : Prop := TAP M N ∧ BY M 9 ∧ BY N 145
section FDa
variable {M N M' N' M1 N1 M2 N2 : mm_} {a k f t x c w p i u v x1 x2 x3 x4 x5 : Int}
theorem ib_r [Inhabited fz_] : -128 ≤ ib_ x ∧ ib_ x ≤ 127 := by unfold ib_; omega
theorem XTP_tr [Inhabited fz_] (h : XTP M M1) (g : XTP M1 M2) : XTP M M2 := ⟨fun r hr => by rw [g.1 r hr, h.1 r hr], fun i hi => by rw [g.2 i hi, h.2 i hi]⟩
theorem QTP_tr [Inhabited fz_] (h : QTP N N1) (g : QTP N1 N2) : QTP N N2 := ⟨fun r hr => by rw [g.1 r hr, h.1 r hr], fun i hi => by rw [g.2 i hi, h.2 i hi]⟩
theorem XTP_rf [Inhabited fz_] : XTP M M := ⟨fun _ _ => rfl, fun _ _ => rfl⟩
theorem QTP_rf [Inhabited fz_] : QTP N N := ⟨fun _ _ => rfl, fun _ _ => rfl⟩
/-- a byte more -/
theorem tp_1 [Inhabited fz_] (h : TPB M N) (h5 : M 0 6 < 5000) (hv : -128 ≤ v ∧ v ≤ 127) : TPB (up_ (up_ M 9 (M 0 6) v) 0 6 (M 0 6 + 1)) (up_ (up_ N 145 (N 6 3) v) 6 3 (N 6 3 + 1)) ∧ XTP M (up_ (up_ M 9 (M 0 6) v) 0 6 (M 0 6 + 1)) ∧ QTP N (up_ (up_ N 145 (N 6 3) v) 6 3 (N 6 3 + 1)) := by
  obtain ⟨⟨⟨t1, t2, t3⟩, t4⟩, b1, b2⟩ := h
  refine ⟨⟨⟨⟨?_, ?_⟩, fun i i0 i1 => ?_⟩, fun i i0 i1 => ?_, fun i i0 i1 => ?_⟩, ⟨fun r hr => ?_, fun i hi => ?_⟩, fun r hr => ?_, fun i hi => ?_⟩
  · rw [up_at, up_at, t1]
  · rw [up_at]; (clear hv t4 t3 b1 b2; omega)
  · rw [up_at] at i1
    rw [up_ne (r := 0) (by decide), up_ne (r := 6) (by decide), ← t1]
    by_cases e : i = M 0 6
    · subst e; rw [up_at, up_at]
    · rw [upo e, upo e]; exact t4 i i0 (by omega)
  · rw [up_ne (by decide)]
    by_cases e : i = M 0 6
    · subst e; rw [up_at]; exact hv
    · rw [upo e]; exact b1 i i0 i1
  · rw [up_ne (by decide)]
    by_cases e : i = N 6 3
    · subst e; rw [up_at]; exact hv
    · rw [upo e]; exact b2 i i0 i1
  · simp only [List.mem_cons, List.not_mem_nil, or_false, not_or] at hr
    rw [up_ne hr.1, up_ne hr.2]
  · rw [upo hi, up_ne (by decide)]
  · simp only [List.mem_cons, List.not_mem_nil, or_false, not_or] at hr
    rw [up_ne hr.1, up_ne hr.2]
  · rw [upo hi, up_ne (by decide)]
theorem j_53 [Inhabited fz_] (h : TPB M N) (h5 : M 0 6 + 4 ≤ 5000) : ∃ M' N', Ex_ 1 53 [.inr (.inr 0), .inl x] M [] M' ∧ Ex_ 1 215 [.inr (.inr 6), .inl x] N [] N' ∧ TPB M' N' ∧ XTP M M' ∧ QTP N N' ∧ M' 0 6 = M 0 6 + 4 := by
  have one : ∀ (M N : mm_) (y z : Int), TPB M N → M 0 6 < 5000 → 0 ≤ y → z = w32 (y + -8) → ∃ M' N', TPB M' N' ∧ XTP M M' ∧ QTP N N' ∧ M' 0 6 = M 0 6 + 1 ∧ (∀ (V : vv_) (Qr : qr_) (Qt : qt_), Cl_ wd0 (Tr_ wd0 pg0 0) V Qr Qt m_53 → Wk_ V → V 3 [rr 0, ii x, ii z] [] M' → V 3 [rr 0, ii x, ii y] [] M) ∧ (∀ (V : vv_) (Qr : qr_) (Qt : qt_), Cl_ wd0 (Tr_ wd0 pg0 0) V Qr Qt m_215 → Wk_ V → V 3 [rr 6, ii x, ii z] [] N' → V 3 [rr 6, ii x, ii y] [] N) := by
    intro M N y z h h5 y0 hz
    have t := tp_1 h h5 (v := ib_ (sr_ x y)) ib_r
    have t1 := h.1.1
    refine ⟨_, _, t.1, t.2.1, t.2.2, up_at, fun V Qr Qt hV hW g => b_53_3 (Tr_mono _) hV hW _ _ _ ?_, fun V Qr Qt hV hW g => b_215_3 (Tr_mono _) hV hW _ _ _ ?_⟩
    · rw [if_neg (by (clear h h5 hz t t1 hV hW g; omega)), w32_id (x := M 0 6 + 1) (by omega) (by omega), ← hz]
      exact ⟨⟨by omega, ib_r⟩, g⟩
    · rw [if_neg (by omega), w32_id (x := N 6 3 + 1) (by omega) (by omega), ← hz]
      exact ⟨⟨by omega, ib_r⟩, g⟩
  obtain ⟨M1, N1, t1, f1, g1, e1, p1, q1⟩ := one M N 24 16 h (by omega) (by decide) (by decide)
  obtain ⟨M2, N2, t2, f2, g2, e2, p2, q2⟩ := one M1 N1 16 8 t1 (by omega) (by decide) (by decide)
  obtain ⟨M3, N3, t3, f3, g3, e3, p3, q3⟩ := one M2 N2 8 0 t2 (by omega) (by decide) (by decide)
  obtain ⟨M4, N4, t4, f4, g4, e4, p4, q4⟩ := one M3 N3 0 (-8) t3 (by omega) (by decide) (by decide)
  refine ⟨M4, N4, fun Qr Qt g => t_53 fun V hV hW => b_53_0 (Tr_mono _) hV hW _ _ (p1 V Qr Qt hV hW (p2 V Qr Qt hV hW (p3 V Qr Qt hV hW (p4 V Qr Qt hV hW (b_53_3 (Tr_mono _) hV hW _ _ _ ?_))))), fun Qr Qt g => t_215 fun V hV hW => b_215_0 (Tr_mono _) hV hW _ _ (q1 V Qr Qt hV hW (q2 V Qr Qt hV hW (q3 V Qr Qt hV hW (q4 V Qr Qt hV hW (b_215_3 (Tr_mono _) hV hW _ _ _ ?_))))), t4, XTP_tr f1 (XTP_tr f2 (XTP_tr f3 f4)), QTP_tr g1 (QTP_tr g2 (QTP_tr g3 g4)), by omega⟩
  · rw [if_pos (by decide)]; exact g
  · rw [if_pos (by decide)]; exact g
theorem j_52 [Inhabited fz_] (h : TPB M N) : ∃ v M' N', Ex_ 2 52 [.inr (.inr 0), .inl x1, .inl x2, .inl x3, .inl x4, .inl x5] M [.inl v] M' ∧ Ex_ 2 214 [.inr (.inr 6), .inl x1, .inl x2, .inl x3, .inl x4, .inl x5] N [.inl v] N' ∧ TPB M' N' ∧ XTP M M' ∧ QTP N N' := by
  have t := h.1.1
  have w : w32 (M 0 6 + 20) = M 0 6 + 20 := w32_id (by omega) (by (clear h; omega))
  by_cases c : M 0 6 + 20 ≤ 5000
  · obtain ⟨M1, N1, p1, q1, t1, f1, g1, e1⟩ := j_53 (x := x1) h (by omega)
    obtain ⟨M2, N2, p2, q2, t2, f2, g2, e2⟩ := j_53 (x := x2) t1 (by omega)
    obtain ⟨M3, N3, p3, q3, t3, f3, g3, e3⟩ := j_53 (x := x3) t2 (by omega)
    obtain ⟨M4, N4, p4, q4, t4, f4, g4, e4⟩ := j_53 (x := x4) t3 (by omega)
    obtain ⟨M5, N5, p5, q5, t5, f5, g5, e5⟩ := j_53 (x := x5) t4 (by omega)
    refine ⟨1, M5, N5, fun Qr Qt g => t_52 fun V hV hW => b_52_0 (Tr_mono _) hV hW _ _ _ _ _ _ ?_, fun Qr Qt g => t_214 fun V hV hW => b_214_0 (Tr_mono _) hV hW _ _ _ _ _ _ ?_, t5, XTP_tr f1 (XTP_tr f2 (XTP_tr f3 (XTP_tr f4 f5))), QTP_tr g1 (QTP_tr g2 (QTP_tr g3 (QTP_tr g4 g5)))⟩
    · rw [w, if_pos c]
      exact p1 _ _ (rv_i (p2 _ _ (rv_i (p3 _ _ (rv_i (p4 _ _ (rv_i (p5 _ _ (rv_i ⟨.inr rfl, g⟩)))))))))
    · rw [if_pos (by (clear h p1 q1 t1 f1 g1 p2 q2 t2 f2 g2 p3 q3 t3 f3 g3 p4 q4 t4 f4 g4 p5 q5 t5 f5 g5 g hV hW; lia))]
      exact q1 _ _ (rv_i (q2 _ _ (rv_i (q3 _ _ (rv_i (q4 _ _ (rv_i (q5 _ _ (rv_i ⟨.inr rfl, g⟩)))))))))
  · refine ⟨0, M, N, fun Qr Qt g => t_52 fun V hV hW => b_52_0 (Tr_mono _) hV hW _ _ _ _ _ _ ?_, fun Qr Qt g => t_214 fun V hV hW => b_214_0 (Tr_mono _) hV hW _ _ _ _ _ _ ?_, h, XTP_rf, QTP_rf⟩
    · rw [w, if_neg c]; exact ⟨.inl rfl, g⟩
    · rw [if_neg (by (clear h g hV hW; lia))]; exact ⟨.inl rfl, g⟩
theorem j_55 [Inhabited fz_] (h : CPR M N) : SM2 1 55 [.inr (.inr 0)] 1 319 [.inr (.inr 6)] M N := ⟨M 0 71, fun Qr Qt g => t_55 fun V hV hW => b_55_0 (Tr_mono _) hV hW _ g, fun Qr Qt g => t_319 fun V hV hW => b_319_0 (Tr_mono _) hV hW _ (by rw [← h.1]; exact g)⟩
/-- the warnings of what is loaded -/
def WNR (M N : mm_) : Prop := (M 0 3 = 0 ∧ N 6 120 = 0) ∨ (M 0 3 = 1 ∧ (M 4 36 = N 6 120 ∧ 0 ≤ N 6 120 ∧ N 6 120 ≤ 200) ∧ ∀ k, 0 ≤ k → k < N 6 120 → M 110 k = N 235 k ∧ M 111 k = N 236 k)
theorem j_56 [Inhabited fz_] (h : WNR M N) : SM2 1 56 [.inr (.inr 0), .inl x1, .inl x2] 1 320 [.inr (.inr 6), .inl x1, .inl x2] M N := by
  by_cases c0 : x1 < 0
  · refine ⟨-1, fun Qr Qt g => t_56 fun V hV hW => b_56_0 (Tr_mono _) hV hW _ _ _ fun _ => ?_, fun Qr Qt g => t_320 fun V hV hW => b_320_0 (Tr_mono _) hV hW _ _ _ ?_⟩
    · by_cases z : M 0 3 = 0
      · rw [if_pos z]; exact g
      · rw [if_neg z, if_pos c0]; exact g
    · rw [if_pos c0]; exact g
  · rcases h with ⟨h1, h2⟩ | ⟨h1, ⟨h2, h3, h4⟩, h5⟩
    · refine ⟨-1, fun Qr Qt g => t_56 fun V hV hW => b_56_0 (Tr_mono _) hV hW _ _ _ fun _ => ?_, fun Qr Qt g => t_320 fun V hV hW => b_320_0 (Tr_mono _) hV hW _ _ _ ?_⟩
      · rw [if_pos h1]; exact g
      · rw [if_neg c0, if_neg (by (clear h1 g hV hW; omega))]; exact g
    · by_cases c1 : x1 < M 4 36
      · have z := h5 x1 (by (clear h1 h5 h2 h3 h4 c1; lia)) (by omega)
        by_cases c2 : x2 = 0
        · refine ⟨M 110 x1, fun Qr Qt g => t_56 fun V hV hW => b_56_0 (Tr_mono _) hV hW _ _ _ fun _ => ?_, fun Qr Qt g => t_320 fun V hV hW => b_320_0 (Tr_mono _) hV hW _ _ _ ?_⟩
          · rw [if_neg (by (clear c0 h5 h2 h3 h4 c1 z c2 g hV hW; lia)), if_neg c0, if_pos c1, if_pos c2]; exact ⟨by omega, g⟩
          · rw [if_neg c0, if_pos (by (clear c0 h1 h5 h3 h4 z c2 g hV hW; omega)), if_neg (by (clear c0 h1 h5 h2 h3 h4 c1 z g hV hW; omega)), if_pos (by (clear c0 h1 h5 h2 h3 h4 c1 z g hV hW; lia)), if_pos c2, ← z.1]; exact ⟨by (clear h1 h5 z c2 g hV hW; omega), g⟩
        · by_cases c3 : x2 = 1
          · refine ⟨M 111 x1, fun Qr Qt g => t_56 fun V hV hW => b_56_0 (Tr_mono _) hV hW _ _ _ fun _ => ?_, fun Qr Qt g => t_320 fun V hV hW => b_320_0 (Tr_mono _) hV hW _ _ _ ?_⟩
            · rw [if_neg (by omega), if_neg c0, if_pos c1, if_neg c2, if_pos c3]; exact ⟨by omega, g⟩
            · rw [if_neg c0, if_pos (by omega), if_neg (by (clear c0 h1 h5 h2 h3 h4 c1 z c2 g hV hW; lia)), if_pos (by (clear c0 h1 h5 h2 h3 h4 c1 z c2 g hV hW; lia)), if_neg c2, ← z.2]; exact ⟨by omega, g⟩
          · refine ⟨-1, fun Qr Qt g => t_56 fun V hV hW => b_56_0 (Tr_mono _) hV hW _ _ _ fun _ => ?_, fun Qr Qt g => t_320 fun V hV hW => b_320_0 (Tr_mono _) hV hW _ _ _ ?_⟩
            · rw [if_neg (by (clear c0 h5 h2 h3 h4 c1 z c2 c3 g hV hW; lia)), if_neg c0, if_pos c1, if_neg c2, if_neg c3]; exact g
            · rw [if_neg c0, if_pos (by omega)]
              by_cases c4 : x2 < 0
              · rw [if_pos c4]; exact g
              · rw [if_neg c4, if_neg (by (clear c0 h1 h5 h2 h3 h4 c1 z g hV hW; lia))]; exact g
      · refine ⟨-1, fun Qr Qt g => t_56 fun V hV hW => b_56_0 (Tr_mono _) hV hW _ _ _ fun _ => ?_, fun Qr Qt g => t_320 fun V hV hW => b_320_0 (Tr_mono _) hV hW _ _ _ ?_⟩
        · rw [if_neg (by omega), if_neg c0, if_neg c1]; exact g
        · rw [if_neg c0, if_neg (by omega)]; exact g
end FDa
end T441_fd
section T442_pb
/-! the plan behind a clean parse: the tables of a run -/
def XTE (M M1 : mm_) : Prop := (∀ r : Nat, 112 ≤ r → r ≤ 142 → M1 r = M r) ∧ ∀ i : Int, 0 ≤ i → i ≤ 4 → M1 5 i = M 5 i
def QTE (N N1 : mm_) : Prop := (∀ r : Nat, 152 ≤ r ∧ r ≤ 234 → N1 r = N r) ∧ ∀ i : Int, i ∈ tfL → N1 6 i = N 6 i
section PBa
variable {M N M1 N1 : mm_} {T : Int}
theorem XTE_o [Inhabited fz_] (h : XTE M M1) : OXS 0 0 M M1 := by
  refine ⟨by rw [h.2 3 (by decide) (by decide), h.2 4 (by decide) (by decide)]; exact ⟨Int.le_refl _, Int.le_refl _⟩, fun i _ _ => by rw [h.1 142 (by decide) (by decide)], fun r i hr _ _ => ?_, fun i _ _ => by rw [h.1 137 (by decide) (by decide)], fun i _ => by rw [h.1 129 (by decide) (by decide)]⟩
  have hr' : 112 ≤ r ∧ r ≤ 142 := by revert hr; unfold st9L; simp only [List.mem_cons, List.not_mem_nil, or_false]; omega
  rw [h.1 r hr'.1 hr'.2]
theorem QTE_o [Inhabited fz_] (h : QTE N N1) : OQS 0 0 N N1 := by
  have l62 := h.2 62 (by decide)
  have l63 := h.2 63 (by decide)
  have l75 := h.2 75 (by decide)
  have l76 := h.2 76 (by decide)
  have l90 := h.2 90 (by decide)
  have l104 := h.2 104 (by decide)
  have e : ∀ r : Nat, 152 ≤ r → r ≤ 234 → N1 r = N r := fun r a b => h.1 r ⟨a, b⟩
  have lt : ∀ (L : List Nat), (∀ r ∈ L, 152 ≤ r ∧ r ≤ 234) → ∀ r : Nat, r ∈ L → N1 r = N r := fun L hL r hr => h.1 r (hL r hr)
  refine ⟨⟨lt ttL (by decide), fun i hi => h.2 i (by revert hi; unfold tfL; simp only [List.mem_cons, List.not_mem_nil, or_false]; (clear h l62 l63 l75 l76 l90 l104 e lt; lia))⟩, by rw [l62, l63, l75, l76, l90, l104]; (clear h l62 l63 l75 l76 l90 l104 e lt; lia), fun r i hr _ _ => by rw [lt sq9L (by decide) r hr], fun i _ _ => by rw [e 200 (by decide) (by decide), e 201 (by decide) (by decide)]; exact ⟨rfl, rfl⟩, fun i _ _ => by rw [e 202 (by decide) (by decide)], fun r i hr _ _ => by rw [lt opL (by decide) r hr], fun i _ _ => by rw [e 209 (by decide) (by decide)], fun r i hr _ _ => by rw [lt rgR (by decide) r hr], fun i _ _ => by rw [e 227 (by decide) (by decide), e 228 (by decide) (by decide)]; exact ⟨rfl, rfl⟩, fun r i hr _ _ => by rw [lt tqL (by decide) r hr], fun i _ => by rw [e 188 (by decide) (by decide), e 189 (by decide) (by decide)]; exact ⟨rfl, rfl⟩⟩
theorem PTY_T [Inhabited fz_] (h : PTY M N T) (hx : XTE M M1) (hq : QTE N N1) : PTY M1 N1 T := by
  haveI : Inhabited gh_ := ih_ 0 (fun _ => 0) 0 0
  have ox := XTE_o hx
  have oq := QTE_o hq
  have x := hx.1
  have e : ∀ r : Nat, 152 ≤ r → r ≤ 234 → N1 r = N r := fun r a b => hq.1 r ⟨a, b⟩
  unfold PTY PPC at h ⊢
  rw [x 120 (by decide) (by decide), x 121 (by decide) (by decide), x 122 (by decide) (by decide), x 123 (by decide) (by decide), x 124 (by decide) (by decide), x 125 (by decide) (by decide), x 126 (by decide) (by decide), x 127 (by decide) (by decide), x 128 (by decide) (by decide), x 129 (by decide) (by decide), x 130 (by decide) (by decide), x 131 (by decide) (by decide), x 132 (by decide) (by decide), e 168 (by decide) (by decide), e 169 (by decide) (by decide), e 170 (by decide) (by decide), e 171 (by decide) (by decide), e 172 (by decide) (by decide), e 173 (by decide) (by decide), e 174 (by decide) (by decide), e 175 (by decide) (by decide), e 176 (by decide) (by decide), e 182 (by decide) (by decide), e 183 (by decide) (by decide), e 184 (by decide) (by decide), e 188 (by decide) (by decide)]
  exact ⟨h.1, h.2.1, h.2.2.1, h.2.2.2.1, ATP_S h.2.2.2.2.1 ox oq, fun l l0 l1 => ATP_S (h.2.2.2.2.2 l l0 l1) ox oq⟩
theorem PST_T [Inhabited fz_] (h : PST M N) (hx : XTE M M1) (hq : QTE N N1) : PST M1 N1 := by
  haveI : Inhabited gh_ := ih_ 0 (fun _ => 0) 0 0
  have ox := XTE_o hx
  have oq := QTE_o hq
  have x := hx.1
  have e : ∀ r : Nat, 152 ≤ r → r ≤ 234 → N1 r = N r := fun r a b => hq.1 r ⟨a, b⟩
  have ns : ∀ k, nsK N1 k = nsK N k := fun k => by unfold nsK; rw [e 193 (by decide) (by decide), e 198 (by decide) (by decide), e 199 (by decide) (by decide)]
  have xs : ∀ n : Nat, xsf N1 n = xsf N n := fun n => by
    induction n with
    | zero => rfl
    | succ n ih => show xsf N1 n + nsK N1 n = xsf N n + nsK N n; rw [ih, ns]
  obtain ⟨h1, h2⟩ := h
  refine ⟨by rw [hq.2 62 (by decide), hq.2 63 (by decide), xs, hx.2 4 (by decide) (by decide)]; exact h1, fun k k0 k1 => ?_⟩
  rw [hq.2 62 (by decide)] at k1
  obtain ⟨g1, g2⟩ := h2 k k0 k1
  refine ⟨by rw [hq.2 63 (by decide), e 192 (by decide) (by decide), e 193 (by decide) (by decide), e 198 (by decide) (by decide), e 199 (by decide) (by decide)]; exact g1, fun j j0 j1 => ?_⟩
  rw [ns] at j1
  obtain ⟨g3, g4⟩ := g2 j j0 j1
  refine ⟨by rw [xs, x 133 (by decide) (by decide), x 134 (by decide) (by decide), x 123 (by decide) (by decide), x 135 (by decide) (by decide), x 136 (by decide) (by decide), e 192 (by decide) (by decide), e 193 (by decide) (by decide), e 194 (by decide) (by decide), e 198 (by decide) (by decide), e 200 (by decide) (by decide)]; exact g3, ?_⟩
  rw [xs, e 198 (by decide) (by decide)]
  obtain ⟨s1, s2, s3, s4⟩ := g4
  unfold SRO
  rw [e 193 (by decide) (by decide), e 192 (by decide) (by decide), e 197 (by decide) (by decide), e 196 (by decide) (by decide), e 195 (by decide) (by decide), x 141 (by decide) (by decide), x 139 (by decide) (by decide), x 140 (by decide) (by decide)]
  refine ⟨fun c => ATP_S (s1 c) ox oq, fun c => ?_, fun c => ⟨ASK_S (s3 c).1 ox oq, (s3 c).2⟩, fun c => ?_⟩
  · rcases s2 c with h | h
    · exact .inl h
    · exact .inr (ASK_S h ox oq)
  · have g := s4 c
    unfold RWI UQI at g ⊢
    rw [e 200 (by decide) (by decide), e 201 (by decide) (by decide), e 202 (by decide) (by decide), e 171 (by decide) (by decide), e 184 (by decide) (by decide), e 183 (by decide) (by decide), e 156 (by decide) (by decide), e 157 (by decide) (by decide), e 182 (by decide) (by decide), x 138 (by decide) (by decide), x 137 (by decide) (by decide), x 133 (by decide) (by decide), x 134 (by decide) (by decide), x 135 (by decide) (by decide), x 136 (by decide) (by decide)]
    exact g
theorem PLB_T [Inhabited fz_] (h : PLB M N) (hx : XTE M M1) (hq : QTE N N1) : PLB M1 N1 := by
  have x := hx.1
  have e : ∀ r : Nat, 152 ≤ r → r ≤ 234 → N1 r = N r := fun r a b => hq.1 r ⟨a, b⟩
  obtain ⟨h1, h2, h3, h4, h5, h6⟩ := h
  refine ⟨by rw [hx.2 0 (by decide) (by decide), hx.2 1 (by decide) (by decide), hx.2 2 (by decide) (by decide), hq.2 17 (by decide), hq.2 18 (by decide), hq.2 19 (by decide)]; exact h1, fun T T0 T1 => PTY_T (h2 T T0 (by rw [hq.2 19 (by decide)] at T1; exact T1)) hx hq, fun r r0 r1 => ?_, PST_T h4 hx hq, ?_, by rw [hx.2 3 (by decide) (by decide), hq.2 75 (by decide), hq.2 90 (by decide), hq.2 104 (by decide)]; exact h6⟩
  · have g := h3 r r0 (by rw [hq.2 18 (by decide)] at r1; exact r1)
    unfold RT2 tpl at g ⊢
    rw [x 114 (by decide) (by decide), x 115 (by decide) (by decide), x 116 (by decide) (by decide), x 117 (by decide) (by decide), x 118 (by decide) (by decide), x 119 (by decide) (by decide), e 158 (by decide) (by decide), e 159 (by decide) (by decide), e 160 (by decide) (by decide), e 161 (by decide) (by decide), e 162 (by decide) (by decide), e 163 (by decide) (by decide), e 164 (by decide) (by decide), e 166 (by decide) (by decide), e 154 (by decide) (by decide), hq.2 19 (by decide)]
    exact g
  · rw [hq.2 17 (by decide), e 156 (by decide) (by decide), e 157 (by decide) (by decide), x 112 (by decide) (by decide), x 113 (by decide) (by decide)]; exact h5
theorem QTE_t [Inhabited fz_] : QTE N (tbN N) := ⟨fun r hr => tbN_r hr.1 hr.2, fun i hi => tbN_6 hi⟩
end PBa
end T442_pb
section T443_pb
/-! the plan behind a clean parse -/
section PBb
variable {M N M1 N1 : mm_} {T : Int}
theorem PLA_B [Inhabited fz_] (h : PLA M N) : PLB M N := by
  obtain ⟨ig, F, a, ⟨S, e102⟩, G, R, n13, _, n170, _⟩ := h
  obtain ⟨⟨⟨tk, hE, m12⟩, ⟨sg, pr, rt, _, _⟩, ty, _, bd, hs⟩, ⟨_, _, _⟩, cnt⟩ := S
  have ga := hE.1
  have a1 : 0 ≤ a ∧ a ≤ 1200 := ⟨ga.1, ga.2.1⟩
  obtain ⟨⟨c75, c104, c53⟩, c76, c17, c90, _, c54, c62, c63⟩ := bd
  obtain ⟨⟨xs, sr⟩, hl⟩ := hs rfl
  obtain ⟨g1, g2⟩ := G
  obtain ⟨r1, r2, r3, r4⟩ := g1 n13
  have s9 := sg.1.1
  have t9 := pr.1.1
  have r9 := rt.1
  have ag : ∀ k, 0 ≤ k → k < N 6 62 → agT N k = N 199 k := fun k k0 k1 => by
    unfold agT
    by_cases c : k = N 6 62 - 1
    · rw [if_pos c, c, hl (by (clear e102 R n13 n170 tk hE m12 sg pr rt ty hs cnt ga a1 c75 c104 c53 c76 c17 c90 c54 c62 c63 hl sr g1 g2 r1 r2 r3 r4 s9 t9 r9 k1; omega))]
    · rw [if_neg c]
  have xse : ∀ k, 0 ≤ k → k ≤ N 6 62 → xs k = xsf N k.toNat := fun k k0 k1 => by
    have := SRW_x sr hl k.toNat (by (clear e102 R n13 n170 tk hE m12 sg pr rt ty hs cnt ga a1 c75 c104 c53 c76 c17 c90 c54 c62 c63 hl sr g1 g2 r1 r2 r3 r4 s9 t9 r9 ag; omega))
    rw [show ((k.toNat : Nat) : Int) = k by (clear e102 R n13 n170 tk hE m12 sg pr rt ty hs cnt ga a1 c75 c104 c53 c76 c17 c90 c54 c62 c63 hl sr g1 g2 r1 r2 r3 r4 s9 t9 r9 ag k1 this; omega)] at this; exact this
  refine ⟨⟨⟨s9.2.2.symm, by (clear e102 R n13 n170 tk hE m12 sg pr rt ty hs cnt ga a1 c75 c104 c53 c76 c17 c90 c54 c62 c63 hl sr g1 g2 r1 r2 r3 r4 t9 r9 ag xse; omega), by (clear e102 R n13 n170 tk hE m12 sg pr rt ty hs cnt ga a1 c75 c104 c53 c76 c17 c90 c54 c62 c63 hl sr g1 g2 r1 r2 r3 r4 t9 r9 ag xse; omega)⟩, ⟨r9.2.2.symm, by (clear e102 R n13 n170 tk hE m12 sg pr rt ty hs cnt ga a1 c75 c104 c53 c76 c17 c90 c54 c62 c63 hl sr g1 g2 r1 r2 r3 r4 s9 t9 ag xse; omega), by omega⟩, ⟨t9.2.2.symm, by (clear e102 R n13 n170 tk hE m12 sg pr rt ty hs cnt ga a1 c75 c104 c53 c76 c17 c90 c54 c62 c63 hl sr g1 g2 r1 r2 r3 r4 s9 r9 ag xse; omega), by (clear e102 R n13 n170 tk hE m12 sg pr rt ty hs cnt ga a1 c75 c104 c53 c76 c17 c90 c54 c62 c63 hl sr g1 g2 r1 r2 r3 r4 s9 r9 ag xse; omega)⟩⟩, fun T T0 T1 => ?_, fun r r0 r1 => ?_, ⟨⟨c62.1, ?_, by (clear e102 R n13 n170 tk hE m12 sg pr rt ty hs cnt ga c75 c104 c53 c76 c17 c90 c62 c63 hl sr g1 g2 r1 r2 r3 r4 s9 t9 r9 ag xse; omega), by (clear e102 R n13 n170 tk hE m12 sg pr rt ty hs cnt ga c75 c104 c53 c76 c17 c90 c54 c63 hl sr g1 g2 r1 r2 r3 r4 s9 t9 r9 ag xse; omega), by (clear e102 R n13 n170 tk hE m12 sg pr rt ty hs cnt ga c75 c104 c53 c76 c17 c90 c54 c62 hl sr g1 g2 r1 r2 r3 r4 s9 t9 r9 ag xse; omega)⟩, fun k k0 k1 => ?_⟩, fun s s0 s1 => ?_, by omega, by (clear e102 R n13 n170 tk hE m12 sg pr rt ty hs cnt ga c104 c53 c76 c17 c90 c54 c62 c63 hl sr g1 g2 r1 r2 r3 r4 s9 t9 r9 ag xse; omega), by (clear e102 R n13 n170 tk hE m12 sg pr rt ty hs cnt ga c75 c104 c53 c76 c17 c54 c62 c63 hl sr g1 g2 r1 r2 r3 r4 s9 t9 r9 ag xse; omega), by (clear e102 R n13 n170 tk hE m12 sg pr rt ty hs cnt ga c75 c53 c76 c17 c90 c54 c62 c63 hl sr g1 g2 r1 r2 r3 r4 s9 t9 r9 ag xse; omega)⟩
  · rw [t9.2.2] at T1
    obtain ⟨v1, v2, v3, v4, v5, v6⟩ := ty T T0 T1
    have cn : (N 168 T = M 120 T ∧ N 169 T = M 121 T) ∧ (0 ≤ M 120 T ∧ M 120 T ≤ 200) ∧ (0 ≤ M 121 T ∧ M 121 T ≤ 200) := cnt T T0 T1
    have p1 := pr.2.1 T T0 T1
    have p2 := pr.2.2 rfl T T0 T1
    have n1 := n170 T T0 T1
    obtain ⟨w1, w2, w3, w4⟩ := v1
    obtain ⟨⟨b1, b2, b3, b4, b5⟩, b6, _, _⟩ := v2
    obtain ⟨a1, a2⟩ := r2 T T0 T1
    refine ⟨⟨⟨cn.1.1.symm, by (clear e102 R n13 n170 tk hE m12 sg pr rt ty hs cnt ga c75 c104 c53 c76 c17 c90 c54 c62 c63 hl sr g1 g2 r1 r2 r3 r4 s9 t9 r9 ag xse T0 T1 v3 v4 v5 v6 p1 p2 n1 w1 w2 w3 w4 b1 b2 b3 b4 b5 b6 a1 a2; omega), by (clear e102 R n13 n170 tk hE m12 sg pr rt ty hs cnt ga c75 c104 c53 c76 c17 c90 c54 c62 c63 hl sr g1 g2 r1 r2 r3 r4 s9 t9 r9 ag xse T0 T1 v3 v4 v5 v6 p1 p2 n1 w1 w2 w3 w4 b1 b2 b3 b4 b5 b6 a1 a2; omega)⟩, ⟨cn.1.2.symm, by (clear e102 R n13 n170 tk hE m12 sg pr rt ty hs cnt ga c75 c104 c53 c76 c17 c90 c54 c62 c63 hl sr g1 g2 r1 r2 r3 r4 s9 t9 r9 ag xse T0 T1 v3 v4 v5 v6 p1 p2 n1 w1 w2 w3 w4 b1 b2 b3 b4 b5 b6 a1 a2; omega), by (clear e102 R n13 n170 tk hE m12 sg pr rt ty hs cnt ga c75 c104 c53 c76 c17 c90 c54 c62 c63 hl sr g1 g2 r1 r2 r3 r4 s9 t9 r9 ag xse T0 T1 v3 v4 v5 v6 p1 p2 n1 w1 w2 w3 w4 b1 b2 b3 b4 b5 b6 a1 a2; omega)⟩⟩, ⟨p2.1, p1.1, p1.2.1, n1, ⟨fun v v0 v1 => ?_, fun i k i0 i1 k1 => ?_⟩⟩, ⟨⟨v3.1.2.2.symm, by have := v3.1; (clear e102 R n13 n170 tk hE m12 sg pr rt ty hs cnt ga c75 c104 c53 c76 c17 c90 c54 c62 c63 hl sr g1 g2 r1 r2 r3 r4 s9 t9 r9 ag xse T0 T1 v3 v4 v5 v6 cn p1 p2 n1 w1 w2 w3 w4 b1 b2 b3 b4 b5 b6 a1 a2; omega), by have := v3.1; (clear e102 R n13 n170 tk hE m12 sg pr rt ty hs cnt ga c75 c104 c53 c76 c17 c90 c54 c62 c63 hl sr g1 g2 r1 r2 r3 r4 s9 t9 r9 ag xse T0 T1 v3 v4 v5 v6 cn p1 p2 n1 w1 w2 w3 w4 b1 b2 b3 b4 b5 b6 a1 a2; omega)⟩, ⟨w1.2.2.symm, by (clear e102 R n13 n170 tk hE m12 sg pr rt ty hs cnt ga c75 c104 c53 c76 c17 c90 c54 c62 c63 hl sr g1 g2 r1 r2 r3 r4 s9 t9 r9 ag xse T0 T1 v3 v4 v5 v6 cn p1 p2 n1 w2 w3 w4 b1 b2 b3 b4 b5 b6 a1 a2; omega), by (clear e102 R n13 n170 tk hE m12 sg pr rt ty hs cnt ga c75 c104 c53 c76 c17 c90 c54 c62 c63 hl sr g1 g2 r1 r2 r3 r4 s9 t9 r9 ag xse T0 T1 v3 v4 v5 v6 cn p1 p2 n1 w2 w3 w4 b1 b2 b3 b4 b5 b6 a1 a2; omega)⟩, ⟨b1.symm, by (clear e102 R n13 n170 tk hE m12 sg pr rt ty hs cnt ga c75 c104 c53 c76 c17 c90 c54 c62 c63 hl sr g1 g2 r1 r2 r3 r4 s9 t9 r9 ag xse T0 T1 v3 v4 v5 v6 cn p1 p2 n1 w1 w2 w3 w4 b4 b5 b6 a1 a2; omega), by (clear e102 R n13 n170 tk hE m12 sg pr rt ty hs cnt ga c75 c104 c53 c76 c17 c90 c54 c62 c63 hl sr g1 g2 r1 r2 r3 r4 s9 t9 r9 ag xse T0 T1 v3 v4 v5 v6 cn p1 p2 n1 w1 w2 w3 w4 b4 b5 b6 a1 a2; omega)⟩, ⟨w2.2.2.symm, by (clear e102 R n13 n170 tk hE m12 sg pr rt ty hs cnt ga c75 c104 c53 c76 c17 c90 c54 c62 c63 hl sr g1 g2 r1 r2 r3 r4 s9 t9 r9 ag xse T0 T1 v3 v4 v5 v6 cn p1 p2 n1 w1 w3 w4 b1 b2 b3 b4 b5 b6 a1 a2; omega), by (clear e102 R n13 n170 tk hE m12 sg pr rt ty hs cnt ga c75 c104 c53 c76 c17 c90 c54 c62 c63 hl sr g1 g2 r1 r2 r3 r4 s9 t9 r9 ag xse T0 T1 v3 v4 v5 v6 cn p1 p2 n1 w1 w3 w4 b1 b2 b3 b4 b5 b6 a1 a2; omega)⟩, ⟨v5.1.1.2.2.symm, by have := v5.1.1; (clear e102 R n13 n170 tk hE m12 sg pr rt ty hs cnt ga c75 c104 c53 c76 c17 c90 c54 c62 c63 hl sr g1 g2 r1 r2 r3 r4 s9 t9 r9 ag xse T0 T1 v3 v4 v5 v6 cn p1 p2 n1 w1 w2 w3 w4 b1 b2 b3 b4 b5 b6 a1 a2; omega), by have := v5.1.1; (clear e102 R n13 n170 tk hE m12 sg pr rt ty hs cnt ga c75 c104 c53 c76 c17 c90 c54 c62 c63 hl sr g1 g2 r1 r2 r3 r4 s9 t9 r9 ag xse T0 T1 v3 v4 v5 v6 cn p1 p2 n1 w1 w2 w3 w4 b1 b2 b3 b4 b5 b6 a1 a2; omega)⟩⟩, fun k k0 k1 => ?_, a1.1, a1.2⟩
    · refine ⟨(p1.2.2 v v0 v1).2.2, ?_⟩
      have := b4 v v0 (by (clear e102 R n13 n170 tk hE m12 sg pr rt ty hs cnt ga c75 c104 c53 c76 c17 c90 c54 c62 c63 hl sr g1 g2 r1 r2 r3 r4 s9 t9 r9 ag xse T0 T1 v3 v4 v5 v6 cn p1 w2 w3 w4 b1 b2 b3 b4 b5 b6 a1 a2 v0; omega)) (fun i i0 i1 => by rw [(w3 i i0 (by (clear e102 R n13 n170 tk hE m12 sg pr rt ty hs cnt ga c75 c104 c53 c76 c17 c90 c54 c62 c63 hl sr g1 g2 r1 r2 r3 r4 s9 t9 r9 ag xse T0 T1 v3 v4 v5 v6 cn p1 w2 w3 w4 b1 b2 b3 b4 b5 b6 a1 a2 v0 i0; omega))).2.2.2.1]; exact (p1.2.2 i i0 (by (clear e102 R n13 n170 tk hE m12 sg pr rt ty hs cnt ga c75 c104 c53 c76 c17 c90 c54 c62 c63 hl sr g1 g2 r1 r2 r3 r4 s9 t9 r9 ag xse T0 T1 v3 v4 v5 v6 cn p1 n1 w1 w2 w3 w4 b1 b2 b3 b4 b5 b6 a1 a2 v0 i0; omega))).2.2)
      rw [if_neg (by (clear e102 R n13 n170 tk hE m12 sg pr rt ty hs cnt ga c75 c104 c53 c76 c17 c90 c54 c62 c63 hl sr g1 g2 r1 r2 r3 r4 s9 t9 r9 ag xse T0 T1 v3 v4 v5 v6 cn p1 w2 w3 w4 b1 b2 b3 b4 b5 b6 a1 a2 v0; omega))] at this
      rw [← (w3 v v0 (by (clear e102 R n13 n170 tk hE m12 sg pr rt ty hs cnt ga c75 c104 c53 c76 c17 c90 c54 c62 c63 hl sr g1 g2 r1 r2 r3 r4 s9 t9 r9 ag xse T0 T1 v3 v4 v5 v6 cn p1 w2 w3 w4 b1 b2 b3 b4 b5 b6 a1 a2 v0; omega))).2.2.2.2.1]; exact this
    · have := b5 i k i0 i1 (by (clear e102 R n13 n170 tk hE m12 sg pr rt ty hs cnt ga c75 c104 c53 c76 c17 c90 c54 c62 c63 hl sr g1 g2 r1 r2 r3 r4 s9 t9 r9 ag xse T0 T1 v3 v4 v5 v6 cn p1 p2 n1 w2 w3 w4 b1 b2 b3 b4 b5 b6 a1 a2 i0 i1; omega))
      rw [(w3 i i0 (by (clear e102 R n13 n170 tk hE m12 sg pr rt ty hs cnt ga c75 c104 c53 c76 c17 c90 c54 c62 c63 hl sr g1 g2 r1 r2 r3 r4 s9 t9 r9 ag xse T0 T1 v3 v4 v5 v6 cn p1 p2 n1 w2 w3 w4 b1 b2 b3 b4 b5 b6 a1 a2 i0 this; omega))).2.2.2.1, (w3 i i0 (by omega)).2.2.2.2.1, (w3 k (by (clear e102 R n13 n170 tk hE m12 sg pr rt ty hs cnt ga c75 c104 c53 c76 c17 c90 c54 c62 c63 hl sr g1 g2 r1 r2 r3 r4 s9 t9 r9 ag xse T0 T1 v3 v4 v5 v6 cn p1 p2 n1 w1 w2 w3 w4 b1 b2 b3 b4 b5 b6 a1 a2 k1 this; omega)) (by (clear e102 R n13 n170 tk hE m12 sg pr rt ty hs cnt ga c75 c104 c53 c76 c17 c90 c54 c62 c63 hl sr g1 g2 r1 r2 r3 r4 s9 t9 r9 ag xse T0 T1 v3 v4 v5 v6 cn p1 p2 n1 w2 w3 w4 b1 b2 b3 b4 b5 b6 a1 a2 i0 i1 this; omega))).2.2.2.2.1] at this
      exact this
    · have x := w3 k k0 (by (clear e102 R n13 n170 tk hE m12 sg pr rt ty hs cnt ga c75 c104 c53 c76 c17 c90 c54 c62 c63 hl sr g1 g2 r1 r2 r3 r4 s9 t9 r9 ag xse T0 T1 v3 v4 v5 v6 cn p1 p2 n1 w2 w3 w4 b1 b2 b3 b4 b5 b6 a1 a2 k0; omega))
      have y := (b6 k k0 (by omega)).1
      rw [x.2.2.2.1, x.2.2.2.2.1, ← b1] at y
      have z := x.2.2.2.2.2.2.2
      rw [x.2.2.2.1] at z
      exact ⟨⟨x.2.2.1, x.2.2.2.1, x.2.2.2.2.1⟩, ⟨z, y.2.2⟩, y.1, y.2.1⟩
  · rw [r9.2.2] at r1
    exact ⟨R r r0 r1, g2 n13 r r0 r1⟩
  · rw [← xse (N 6 62) c62.1 (Int.le_refl _)]; exact sr.1.2.2
  · obtain ⟨q1, q2, q3, q4, q5⟩ := (sr.2 k k0 k1).2
    rw [ag k k0 k1] at q3 q4
    refine ⟨⟨q1, q2, q3, q4⟩, fun j j0 j1 => ⟨?_, r1 k k0 k1 j j0 j1⟩⟩
    have := q5 j j0 (by unfold nSt; rw [ag k k0 k1]; exact j1)
    rw [xse k k0 (by (clear e102 R n13 n170 tk hE m12 sg pr rt ty hs cnt ga a1 c75 c104 c53 c76 c17 c90 c54 c62 c63 hl sr g1 g2 r1 r2 r3 r4 s9 t9 r9 ag xse k0 q1 q2 q3 q4 q5 j0 j1 this; omega))] at this
    exact this
  · rw [s9.2.2] at s1
    obtain ⟨⟨x1, x2, x3⟩, y⟩ := sg.2 s s0 s1
    refine ⟨⟨by (clear e102 R n13 n170 tk hE m12 sg pr rt ty hs cnt ga a1 c75 c104 c53 c76 c17 c90 c54 c62 c63 hl sr g1 g2 r1 r2 r3 r4 s9 t9 r9 ag xse s0 s1 y; omega), by (clear e102 R n13 n170 tk hE m12 sg pr rt ty hs cnt ga a1 c75 c104 c53 c76 c17 c90 c54 c62 c63 hl sr g1 g2 r1 r2 r3 r4 s9 t9 r9 ag xse s0 s1 y; omega), x3.symm⟩, fun i i0 i1 => ?_⟩
    obtain ⟨y1, y2, y3⟩ := y i i0 (by (clear e102 R n13 n170 tk hE m12 sg pr rt ty hs cnt ga a1 c75 c104 c53 c76 c17 c90 c54 c62 c63 hl sr g1 g2 r1 r2 r3 r4 s9 t9 r9 ag xse s0 s1 y x1 x2 i0; omega))
    exact ⟨y3, y1, y2⟩
end PBb
end T443_pb
