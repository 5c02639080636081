set_option maxRecDepth 100000
set_option maxHeartbeats 1000000
/-! what methods do, and their walks, by program -/
def mL_c32 (C : Hp → Prop) (x4 : Int) (h1 : Hp) (Q : Rs → Hp → Prop) : Prop := nm (x4 + 1) ∧ ob h1 1 70 ∧ 0 ≤ (x4 + 1) ∧ (x4 + 1) < (hN h1 1) ∧ nm (x4 + 2) ∧ 0 ≤ (x4 + 2) ∧ (x4 + 2) < (hN h1 1) ∧ nm (x4 + 3) ∧ 0 ≤ (x4 + 3) ∧ (x4 + 3) < (hN h1 1) ∧ mX0_dose (hI h1 1 (Int.toNat (x4 + 1))) (hI h1 1 (Int.toNat (x4 + 2))) (hI h1 1 (Int.toNat (x4 + 3))) h1 (kI Q (fun x112 h111 => ob h111 1 70 ∧ (x4 + 1) < (hN h111 1) ∧ (x4 + 2) < (hN h111 1) ∧ (x4 + 3) < (hN h111 1) ∧ mX4_dose (hI h111 1 (Int.toNat (x4 + 1))) (hI h111 1 (Int.toNat (x4 + 2))) (hI h111 1 (Int.toNat (x4 + 3))) h111 (kI Q (fun x118 h117 => if ¬ ((vX4_thrown h117) = x112) then Q (rV (vI 0)) h117 else if ¬ (x112 ≠ 0) ∧ (¬ ((lcm (hL h117 158 0) x118) = 0)) then Q (rV (vI 0)) h117 else C h117))))
theorem wL_c32 {G : Gx} (hg : gF G = true) {d : Nat} {C : Hp → Prop} {x4 : Int} {h h1 : Hp} {Q : Rs → Hp → Prop} (kC : ∀ h2, C h2 → Wc G tL_law (d + 400) h Q 2776 [some (vR 1), some (vR 50), some (vR 75), some (vR 158), some (vI x4), none, none] [] h2) (hm : mL_c32 C x4 h1 Q) : Wc G tL_law (d + 400) h Q 2418 [some (vR 1), some (vR 50), some (vR 75), some (vR 158), some (vI x4), none, none] [] h1 := by
  unfold mL_c32 at hm
  obtain ⟨o101, o102, o103, o104, o105, o106, o107, o108, o109, o110, hm⟩ := hm
  refine wc_aload_n (pc := 2418) (dAt dtL_law_c23 54 rfl) rfl (wc_aload_n (pc := 2419) (dAt dtL_law_c23 55 rfl) rfl (wc_iload (pc := 2420) (dAt dtL_law_c23 56 rfl) rfl (wc_iconst (pc := 2422) (dAt dtL_law_c23 57 rfl) ⟨by decide, by decide⟩ (wc_iadd (pc := 2423) (dAt dtL_law_c23 58 rfl) o101 (wc_iald (pc := 2424) (dAt dtL_law_c23 59 rfl) o102 o103 o104 (wc_aload_n (pc := 2425) (dAt dtL_law_c23 60 rfl) rfl (wc_iload (pc := 2426) (dAt dtL_law_c23 61 rfl) rfl (wc_iconst (pc := 2428) (dAt dtL_law_c23 62 rfl) ⟨by decide, by decide⟩ (wc_iadd (pc := 2429) (dAt dtL_law_c23 63 rfl) o105 (wc_iald (pc := 2430) (dAt dtL_law_c24 0 rfl) o102 o106 o107 (wc_aload_n (pc := 2431) (dAt dtL_law_c24 1 rfl) rfl (wc_iload (pc := 2432) (dAt dtL_law_c24 2 rfl) rfl (wc_iconst (pc := 2434) (dAt dtL_law_c24 3 rfl) ⟨by decide, by decide⟩ (wc_iadd (pc := 2435) (dAt dtL_law_c24 4 rfl) o108 (wc_iald (pc := 2436) (dAt dtL_law_c24 5 rfl) o102 o109 o110 (wc_aload_n (pc := 2437) (dAt dtL_law_c24 6 rfl) rfl (wc_callS (y' := tX0_dose) (av := [vR 50, vI (hI h1 1 (Int.toNat (x4 + 1))), vI (hI h1 1 (Int.toNat (x4 + 2))), vI (hI h1 1 (Int.toNat (x4 + 3))), vR 158]) (st := []) (pc := 2438) (dAt dtL_law_c24 7 rfl) lkL_231 moX0_dose q2085 q127 rfl rfl (Nat.le_of_ble_eq_true rfl) (wX0_dose hg hm) (kr_I (fun x112 h111 hm => ?_)) (kx_I rfl))))))))))))))))))
  obtain ⟨o113, o114, o115, o116, hm⟩ := hm
  refine wc_istore (pc := 2441) (dAt dtL_law_c24 8 rfl) (by decide) (wc_L (L' := [some (vR 1), some (vR 50), some (vR 75), some (vR 158), some (vI x4), some (vI x112), none]) rfl (wc_aload_n (pc := 2443) (dAt dtL_law_c24 9 rfl) rfl (wc_aload_n (pc := 2444) (dAt dtL_law_c24 10 rfl) rfl (wc_iload (pc := 2445) (dAt dtL_law_c24 11 rfl) rfl (wc_iconst (pc := 2447) (dAt dtL_law_c24 12 rfl) ⟨by decide, by decide⟩ (wc_iadd (pc := 2448) (dAt dtL_law_c24 13 rfl) o101 (wc_iald (pc := 2449) (dAt dtL_law_c24 14 rfl) o113 o103 o114 (wc_aload_n (pc := 2450) (dAt dtL_law_c24 15 rfl) rfl (wc_iload (pc := 2451) (dAt dtL_law_c24 16 rfl) rfl (wc_iconst (pc := 2453) (dAt dtL_law_c24 17 rfl) ⟨by decide, by decide⟩ (wc_iadd (pc := 2454) (dAt dtL_law_c24 18 rfl) o105 (wc_iald (pc := 2455) (dAt dtL_law_c24 19 rfl) o113 o106 o115 (wc_aload_n (pc := 2456) (dAt dtL_law_c24 20 rfl) rfl (wc_iload (pc := 2457) (dAt dtL_law_c24 21 rfl) rfl (wc_iconst (pc := 2459) (dAt dtL_law_c24 22 rfl) ⟨by decide, by decide⟩ (wc_iadd (pc := 2460) (dAt dtL_law_c24 23 rfl) o108 (wc_iald (pc := 2461) (dAt dtL_law_c24 24 rfl) o113 o109 o116 (wc_kf hg fun zk => wc_callV (k := 4) (y' := tX4_dose) (av := [vI (hI h111 1 (Int.toNat (x4 + 1))), vI (hI h111 1 (Int.toNat (x4 + 2))), vI (hI h111 1 (Int.toNat (x4 + 3)))]) (st := []) (pc := 2462) (dAt dtL_law_c24 25 rfl) lkL_233 moX4_dose q2904 q2905 (by decide) (zk.2 _ ka75).1 rfl rfl (Nat.le_of_ble_eq_true rfl) (wX4_dose hg hm) (kr_I (fun x118 h117 hm => ?_)) (kx_I rfl)))))))))))))))))))
  refine wc_istore (pc := 2465) (dAt dtL_law_c24 26 rfl) (by decide) (wc_L (L' := [some (vR 1), some (vR 50), some (vR 75), some (vR 158), some (vI x4), some (vI x112), some (vI x118)]) rfl (wc_aload_n (pc := 2467) (dAt dtL_law_c24 27 rfl) rfl (wc_kf hg fun zk => wc_callV (k := 4) (y' := tX4_thrown) (P := eI (vX4_thrown h117) h117) (pc := 2468) (dAt dtL_law_c24 28 rfl) lkL_133 moX4_thrown q2122 q2123 (by decide) (zk.2 _ ka75).1 rfl rfl (Nat.le_of_ble_eq_true rfl) (wX4_thrown hg ⟨rfl, rfl⟩) (ep_I (wc_iload (pc := 2471) (dAt dtL_law_c24 29 rfl) rfl (wc_icmp_eq (pc := 2473) (tgt := 2478) (dAt dtL_law_c24 30 rfl) (by decide) (fun c119 => ?_) (fun c119 => ?_)))) ex_I)))
  · replace hm := ite_f (fun z => z c119) hm
    refine wc_iload (pc := 2478) (dAt dtL_law_c24 33 rfl) rfl (?_)
    have k121 : (¬ (x112 ≠ 0) ∧ (¬ ((lcm (hL h117 158 0) x118) = 0))) → Wc G tL_law (d + 400) h Q 2493 [some (vR 1), some (vR 50), some (vR 75), some (vR 158), some (vI x4), some (vI x112), some (vI x118)] [] h117 := fun c120 => by
      replace hm := ite_t c120 hm
      exact wc_iconst (pc := 2493) (dAt dtL_law_c24 42 rfl) ⟨by decide, by decide⟩ (wc_iret (pc := 2494) (dAt dtL_law_c24 43 rfl) rfl (nar_bool (Or.inl rfl)) hm)
    have k122 : ¬ (¬ (x112 ≠ 0) ∧ (¬ ((lcm (hL h117 158 0) x118) = 0))) → Wc G tL_law (d + 400) h Q 2495 [some (vR 1), some (vR 50), some (vR 75), some (vR 158), some (vI x4), some (vI x112), some (vI x118)] [] h117 := fun c120 => by
      replace hm := ite_f c120 hm
      exact wc_goto (pc := 2495) (tgt := 2776) (dAt dtL_law_c24 44 rfl) (by decide) (wc_drp [5, 6] rfl (kC _ hm))
    exact wc_if_ne (pc := 2480) (tgt := 2495) (dAt dtL_law_c24 34 rfl) (by decide) (fun c123 => (k122 (fun z => z.1 c123))) (fun c123 => wc_aload_n (pc := 2483) (dAt dtL_law_c24 35 rfl) rfl (wc_iconst (pc := 2484) (dAt dtL_law_c24 36 rfl) ⟨by decide, by decide⟩ (wc_laldK hg (pc := 2485) (dAt dtL_law_c24 37 rfl) kr158 (by decide) (by decide) (wc_iload (pc := 2486) (dAt dtL_law_c24 38 rfl) rfl (wc_i2l (pc := 2488) (dAt dtL_law_c24 39 rfl) (wc_lcmp (pc := 2489) (dAt dtL_law_c24 40 rfl) (wc_if_eq (pc := 2490) (tgt := 2495) (dAt dtL_law_c24 41 rfl) (by decide) (fun c124 => (k122 (fun z => (fun z => z c124) z.2))) (fun c124 => (k121 ⟨c123, c124⟩)))))))))
  · replace hm := ite_t c119 hm
    exact wc_iconst (pc := 2476) (dAt dtL_law_c24 31 rfl) ⟨by decide, by decide⟩ (wc_iret (pc := 2477) (dAt dtL_law_c24 32 rfl) rfl (nar_bool (Or.inl rfl)) hm)

def mL_c33 (C : Hp → Prop) (x4 : Int) (h1 : Hp) (Q : Rs → Hp → Prop) : Prop := nm (x4 + 1) ∧ ob h1 1 70 ∧ 0 ≤ (x4 + 1) ∧ (x4 + 1) < (hN h1 1) ∧ nm (x4 + 2) ∧ 0 ≤ (x4 + 2) ∧ (x4 + 2) < (hN h1 1) ∧ nm (x4 + 3) ∧ 0 ≤ (x4 + 3) ∧ (x4 + 3) < (hN h1 1) ∧ mX0_counted (hI h1 1 (Int.toNat (x4 + 1))) (hI h1 1 (Int.toNat (x4 + 2))) (hI h1 1 (Int.toNat (x4 + 3))) h1 (kI Q (fun x112 h111 => ob h111 1 70 ∧ (x4 + 1) < (hN h111 1) ∧ (x4 + 2) < (hN h111 1) ∧ (x4 + 3) < (hN h111 1) ∧ mX4_counted (hI h111 1 (Int.toNat (x4 + 1))) (hI h111 1 (Int.toNat (x4 + 2))) (hI h111 1 (Int.toNat (x4 + 3))) h111 (kI Q (fun x118 h117 => if ¬ ((vX4_thrown h117) = x112) then Q (rV (vI 0)) h117 else if ¬ (x112 ≠ 0) ∧ (¬ ((lcm (hL h117 158 0) x118) = 0)) then Q (rV (vI 0)) h117 else C h117))))
theorem wL_c33 {G : Gx} (hg : gF G = true) {d : Nat} {C : Hp → Prop} {x4 : Int} {h h1 : Hp} {Q : Rs → Hp → Prop} (kC : ∀ h2, C h2 → Wc G tL_law (d + 400) h Q 2776 [some (vR 1), some (vR 50), some (vR 75), some (vR 158), some (vI x4), none, none] [] h2) (hm : mL_c33 C x4 h1 Q) : Wc G tL_law (d + 400) h Q 2498 [some (vR 1), some (vR 50), some (vR 75), some (vR 158), some (vI x4), none, none] [] h1 := by
  unfold mL_c33 at hm
  obtain ⟨o101, o102, o103, o104, o105, o106, o107, o108, o109, o110, hm⟩ := hm
  refine wc_aload_n (pc := 2498) (dAt dtL_law_c24 45 rfl) rfl (wc_aload_n (pc := 2499) (dAt dtL_law_c24 46 rfl) rfl (wc_iload (pc := 2500) (dAt dtL_law_c24 47 rfl) rfl (wc_iconst (pc := 2502) (dAt dtL_law_c24 48 rfl) ⟨by decide, by decide⟩ (wc_iadd (pc := 2503) (dAt dtL_law_c24 49 rfl) o101 (wc_iald (pc := 2504) (dAt dtL_law_c24 50 rfl) o102 o103 o104 (wc_aload_n (pc := 2505) (dAt dtL_law_c24 51 rfl) rfl (wc_iload (pc := 2506) (dAt dtL_law_c24 52 rfl) rfl (wc_iconst (pc := 2508) (dAt dtL_law_c24 53 rfl) ⟨by decide, by decide⟩ (wc_iadd (pc := 2509) (dAt dtL_law_c24 54 rfl) o105 (wc_iald (pc := 2510) (dAt dtL_law_c24 55 rfl) o102 o106 o107 (wc_aload_n (pc := 2511) (dAt dtL_law_c24 56 rfl) rfl (wc_iload (pc := 2512) (dAt dtL_law_c24 57 rfl) rfl (wc_iconst (pc := 2514) (dAt dtL_law_c24 58 rfl) ⟨by decide, by decide⟩ (wc_iadd (pc := 2515) (dAt dtL_law_c24 59 rfl) o108 (wc_iald (pc := 2516) (dAt dtL_law_c24 60 rfl) o102 o109 o110 (wc_aload_n (pc := 2517) (dAt dtL_law_c24 61 rfl) rfl (wc_callS (y' := tX0_counted) (av := [vR 50, vI (hI h1 1 (Int.toNat (x4 + 1))), vI (hI h1 1 (Int.toNat (x4 + 2))), vI (hI h1 1 (Int.toNat (x4 + 3))), vR 158]) (st := []) (pc := 2518) (dAt dtL_law_c24 62 rfl) lkL_234 moX0_counted q2101 q127 rfl rfl (Nat.le_of_ble_eq_true rfl) (wX0_counted hg hm) (kr_I (fun x112 h111 hm => ?_)) (kx_I rfl))))))))))))))))))
  obtain ⟨o113, o114, o115, o116, hm⟩ := hm
  refine wc_istore (pc := 2521) (dAt dtL_law_c24 63 rfl) (by decide) (wc_L (L' := [some (vR 1), some (vR 50), some (vR 75), some (vR 158), some (vI x4), some (vI x112), none]) rfl (wc_aload_n (pc := 2523) (dAt dtL_law_c25 0 rfl) rfl (wc_aload_n (pc := 2524) (dAt dtL_law_c25 1 rfl) rfl (wc_iload (pc := 2525) (dAt dtL_law_c25 2 rfl) rfl (wc_iconst (pc := 2527) (dAt dtL_law_c25 3 rfl) ⟨by decide, by decide⟩ (wc_iadd (pc := 2528) (dAt dtL_law_c25 4 rfl) o101 (wc_iald (pc := 2529) (dAt dtL_law_c25 5 rfl) o113 o103 o114 (wc_aload_n (pc := 2530) (dAt dtL_law_c25 6 rfl) rfl (wc_iload (pc := 2531) (dAt dtL_law_c25 7 rfl) rfl (wc_iconst (pc := 2533) (dAt dtL_law_c25 8 rfl) ⟨by decide, by decide⟩ (wc_iadd (pc := 2534) (dAt dtL_law_c25 9 rfl) o105 (wc_iald (pc := 2535) (dAt dtL_law_c25 10 rfl) o113 o106 o115 (wc_aload_n (pc := 2536) (dAt dtL_law_c25 11 rfl) rfl (wc_iload (pc := 2537) (dAt dtL_law_c25 12 rfl) rfl (wc_iconst (pc := 2539) (dAt dtL_law_c25 13 rfl) ⟨by decide, by decide⟩ (wc_iadd (pc := 2540) (dAt dtL_law_c25 14 rfl) o108 (wc_iald (pc := 2541) (dAt dtL_law_c25 15 rfl) o113 o109 o116 (wc_kf hg fun zk => wc_callV (k := 4) (y' := tX4_counted) (av := [vI (hI h111 1 (Int.toNat (x4 + 1))), vI (hI h111 1 (Int.toNat (x4 + 2))), vI (hI h111 1 (Int.toNat (x4 + 3)))]) (st := []) (pc := 2542) (dAt dtL_law_c25 16 rfl) lkL_236 moX4_counted q2912 q2913 (by decide) (zk.2 _ ka75).1 rfl rfl (Nat.le_of_ble_eq_true rfl) (wX4_counted hg hm) (kr_I (fun x118 h117 hm => ?_)) (kx_I rfl)))))))))))))))))))
  refine wc_istore (pc := 2545) (dAt dtL_law_c25 17 rfl) (by decide) (wc_L (L' := [some (vR 1), some (vR 50), some (vR 75), some (vR 158), some (vI x4), some (vI x112), some (vI x118)]) rfl (wc_aload_n (pc := 2547) (dAt dtL_law_c25 18 rfl) rfl (wc_kf hg fun zk => wc_callV (k := 4) (y' := tX4_thrown) (P := eI (vX4_thrown h117) h117) (pc := 2548) (dAt dtL_law_c25 19 rfl) lkL_133 moX4_thrown q2122 q2123 (by decide) (zk.2 _ ka75).1 rfl rfl (Nat.le_of_ble_eq_true rfl) (wX4_thrown hg ⟨rfl, rfl⟩) (ep_I (wc_iload (pc := 2551) (dAt dtL_law_c25 20 rfl) rfl (wc_icmp_eq (pc := 2553) (tgt := 2558) (dAt dtL_law_c25 21 rfl) (by decide) (fun c119 => ?_) (fun c119 => ?_)))) ex_I)))
  · replace hm := ite_f (fun z => z c119) hm
    refine wc_iload (pc := 2558) (dAt dtL_law_c25 24 rfl) rfl (?_)
    have k121 : (¬ (x112 ≠ 0) ∧ (¬ ((lcm (hL h117 158 0) x118) = 0))) → Wc G tL_law (d + 400) h Q 2573 [some (vR 1), some (vR 50), some (vR 75), some (vR 158), some (vI x4), some (vI x112), some (vI x118)] [] h117 := fun c120 => by
      replace hm := ite_t c120 hm
      exact wc_iconst (pc := 2573) (dAt dtL_law_c25 33 rfl) ⟨by decide, by decide⟩ (wc_iret (pc := 2574) (dAt dtL_law_c25 34 rfl) rfl (nar_bool (Or.inl rfl)) hm)
    have k122 : ¬ (¬ (x112 ≠ 0) ∧ (¬ ((lcm (hL h117 158 0) x118) = 0))) → Wc G tL_law (d + 400) h Q 2575 [some (vR 1), some (vR 50), some (vR 75), some (vR 158), some (vI x4), some (vI x112), some (vI x118)] [] h117 := fun c120 => by
      replace hm := ite_f c120 hm
      exact wc_goto (pc := 2575) (tgt := 2776) (dAt dtL_law_c25 35 rfl) (by decide) (wc_drp [5, 6] rfl (kC _ hm))
    exact wc_if_ne (pc := 2560) (tgt := 2575) (dAt dtL_law_c25 25 rfl) (by decide) (fun c123 => (k122 (fun z => z.1 c123))) (fun c123 => wc_aload_n (pc := 2563) (dAt dtL_law_c25 26 rfl) rfl (wc_iconst (pc := 2564) (dAt dtL_law_c25 27 rfl) ⟨by decide, by decide⟩ (wc_laldK hg (pc := 2565) (dAt dtL_law_c25 28 rfl) kr158 (by decide) (by decide) (wc_iload (pc := 2566) (dAt dtL_law_c25 29 rfl) rfl (wc_i2l (pc := 2568) (dAt dtL_law_c25 30 rfl) (wc_lcmp (pc := 2569) (dAt dtL_law_c25 31 rfl) (wc_if_eq (pc := 2570) (tgt := 2575) (dAt dtL_law_c25 32 rfl) (by decide) (fun c124 => (k122 (fun z => (fun z => z c124) z.2))) (fun c124 => (k121 ⟨c123, c124⟩)))))))))
  · replace hm := ite_t c119 hm
    exact wc_iconst (pc := 2556) (dAt dtL_law_c25 22 rfl) ⟨by decide, by decide⟩ (wc_iret (pc := 2557) (dAt dtL_law_c25 23 rfl) rfl (nar_bool (Or.inl rfl)) hm)

def mL_c34 (C : Hp → Prop) (x4 : Int) (h1 : Hp) (Q : Rs → Hp → Prop) : Prop := nm (x4 + 1) ∧ ob h1 1 70 ∧ 0 ≤ (x4 + 1) ∧ (x4 + 1) < (hN h1 1) ∧ nm (x4 + 2) ∧ 0 ≤ (x4 + 2) ∧ (x4 + 2) < (hN h1 1) ∧ nm (x4 + 3) ∧ 0 ≤ (x4 + 3) ∧ (x4 + 3) < (hN h1 1) ∧ mX1_gift (hI h1 1 (Int.toNat (x4 + 1))) (hI h1 1 (Int.toNat (x4 + 2))) (hI h1 1 (Int.toNat (x4 + 3))) h1 (kI Q (fun x112 h111 => ob h111 1 70 ∧ (x4 + 1) < (hN h111 1) ∧ (x4 + 2) < (hN h111 1) ∧ (x4 + 3) < (hN h111 1) ∧ mX4_gift (hI h111 1 (Int.toNat (x4 + 1))) (hI h111 1 (Int.toNat (x4 + 2))) (hI h111 1 (Int.toNat (x4 + 3))) h111 (kI Q (fun x118 h117 => if ¬ (x112 = x118) then Q (rV (vI 0)) h117 else C h117))))
theorem wL_c34 {G : Gx} (hg : gF G = true) {d : Nat} {C : Hp → Prop} {x4 : Int} {h h1 : Hp} {Q : Rs → Hp → Prop} (kC : ∀ h2, C h2 → Wc G tL_law (d + 400) h Q 2776 [some (vR 1), some (vR 50), some (vR 75), some (vR 158), some (vI x4), none, none] [] h2) (hm : mL_c34 C x4 h1 Q) : Wc G tL_law (d + 400) h Q 2578 [some (vR 1), some (vR 50), some (vR 75), some (vR 158), some (vI x4), none, none] [] h1 := by
  unfold mL_c34 at hm
  obtain ⟨o101, o102, o103, o104, o105, o106, o107, o108, o109, o110, hm⟩ := hm
  refine wc_aload_n (pc := 2578) (dAt dtL_law_c25 36 rfl) rfl (wc_aload_n (pc := 2579) (dAt dtL_law_c25 37 rfl) rfl (wc_iload (pc := 2580) (dAt dtL_law_c25 38 rfl) rfl (wc_iconst (pc := 2582) (dAt dtL_law_c25 39 rfl) ⟨by decide, by decide⟩ (wc_iadd (pc := 2583) (dAt dtL_law_c25 40 rfl) o101 (wc_iald (pc := 2584) (dAt dtL_law_c25 41 rfl) o102 o103 o104 (wc_aload_n (pc := 2585) (dAt dtL_law_c25 42 rfl) rfl (wc_iload (pc := 2586) (dAt dtL_law_c25 43 rfl) rfl (wc_iconst (pc := 2588) (dAt dtL_law_c25 44 rfl) ⟨by decide, by decide⟩ (wc_iadd (pc := 2589) (dAt dtL_law_c25 45 rfl) o105 (wc_iald (pc := 2590) (dAt dtL_law_c25 46 rfl) o102 o106 o107 (wc_aload_n (pc := 2591) (dAt dtL_law_c25 47 rfl) rfl (wc_iload (pc := 2592) (dAt dtL_law_c25 48 rfl) rfl (wc_iconst (pc := 2594) (dAt dtL_law_c25 49 rfl) ⟨by decide, by decide⟩ (wc_iadd (pc := 2595) (dAt dtL_law_c25 50 rfl) o108 (wc_iald (pc := 2596) (dAt dtL_law_c25 51 rfl) o102 o109 o110 (wc_kf hg fun zk => wc_callV (k := 1) (y' := tX1_gift) (av := [vI (hI h1 1 (Int.toNat (x4 + 1))), vI (hI h1 1 (Int.toNat (x4 + 2))), vI (hI h1 1 (Int.toNat (x4 + 3)))]) (st := []) (pc := 2597) (dAt dtL_law_c25 52 rfl) lkL_237 moX1_gift q637 q638 (by decide) (zk.2 _ ka50).1 rfl rfl (Nat.le_of_ble_eq_true rfl) (wX1_gift hg hm) (kr_I (fun x112 h111 hm => ?_)) (kx_I rfl)))))))))))))))))
  obtain ⟨o113, o114, o115, o116, hm⟩ := hm
  refine wc_aload_n (pc := 2600) (dAt dtL_law_c25 53 rfl) rfl (wc_aload_n (pc := 2601) (dAt dtL_law_c25 54 rfl) rfl (wc_iload (pc := 2602) (dAt dtL_law_c25 55 rfl) rfl (wc_iconst (pc := 2604) (dAt dtL_law_c25 56 rfl) ⟨by decide, by decide⟩ (wc_iadd (pc := 2605) (dAt dtL_law_c25 57 rfl) o101 (wc_iald (pc := 2606) (dAt dtL_law_c25 58 rfl) o113 o103 o114 (wc_aload_n (pc := 2607) (dAt dtL_law_c25 59 rfl) rfl (wc_iload (pc := 2608) (dAt dtL_law_c25 60 rfl) rfl (wc_iconst (pc := 2610) (dAt dtL_law_c25 61 rfl) ⟨by decide, by decide⟩ (wc_iadd (pc := 2611) (dAt dtL_law_c25 62 rfl) o105 (wc_iald (pc := 2612) (dAt dtL_law_c25 63 rfl) o113 o106 o115 (wc_aload_n (pc := 2613) (dAt dtL_law_c26 0 rfl) rfl (wc_iload (pc := 2614) (dAt dtL_law_c26 1 rfl) rfl (wc_iconst (pc := 2616) (dAt dtL_law_c26 2 rfl) ⟨by decide, by decide⟩ (wc_iadd (pc := 2617) (dAt dtL_law_c26 3 rfl) o108 (wc_iald (pc := 2618) (dAt dtL_law_c26 4 rfl) o113 o109 o116 (wc_kf hg fun zk => wc_callV (k := 4) (y' := tX4_gift) (av := [vI (hI h111 1 (Int.toNat (x4 + 1))), vI (hI h111 1 (Int.toNat (x4 + 2))), vI (hI h111 1 (Int.toNat (x4 + 3)))]) (st := [vI x112]) (pc := 2619) (dAt dtL_law_c26 5 rfl) lkL_240 moX4_gift q2916 q2917 (by decide) (zk.2 _ ka75).1 rfl rfl (Nat.le_of_ble_eq_true rfl) (wX4_gift hg hm) (kr_I (fun x118 h117 hm => ?_)) (kx_I rfl)))))))))))))))))
  refine wc_icmp_eq (pc := 2622) (tgt := 2776) (dAt dtL_law_c26 6 rfl) (by decide) (fun c119 => ?_) (fun c119 => ?_)
  · replace hm := ite_f (fun z => z c119) hm
    exact kC _ hm
  · replace hm := ite_t c119 hm
    exact wc_iconst (pc := 2625) (dAt dtL_law_c26 7 rfl) ⟨by decide, by decide⟩ (wc_iret (pc := 2626) (dAt dtL_law_c26 8 rfl) rfl (nar_bool (Or.inl rfl)) hm)

def mL_c35 (C : Hp → Prop) (x4 : Int) (h1 : Hp) (Q : Rs → Hp → Prop) : Prop := nm (x4 + 1) ∧ ob h1 1 70 ∧ 0 ≤ (x4 + 1) ∧ (x4 + 1) < (hN h1 1) ∧ nm (x4 + 2) ∧ 0 ≤ (x4 + 2) ∧ (x4 + 2) < (hN h1 1) ∧ mX1_spend (hI h1 1 (Int.toNat (x4 + 1))) (hI h1 1 (Int.toNat (x4 + 2))) h1 (kI Q (fun x109 h108 => ob h108 1 70 ∧ (x4 + 1) < (hN h108 1) ∧ (x4 + 2) < (hN h108 1) ∧ mX4_spend (hI h108 1 (Int.toNat (x4 + 1))) (hI h108 1 (Int.toNat (x4 + 2))) h108 (kI Q (fun x114 h113 => if ¬ (x109 = x114) then Q (rV (vI 0)) h113 else C h113))))
theorem wL_c35 {G : Gx} (hg : gF G = true) {d : Nat} {C : Hp → Prop} {x4 : Int} {h h1 : Hp} {Q : Rs → Hp → Prop} (kC : ∀ h2, C h2 → Wc G tL_law (d + 400) h Q 2776 [some (vR 1), some (vR 50), some (vR 75), some (vR 158), some (vI x4), none, none] [] h2) (hm : mL_c35 C x4 h1 Q) : Wc G tL_law (d + 400) h Q 2627 [some (vR 1), some (vR 50), some (vR 75), some (vR 158), some (vI x4), none, none] [] h1 := by
  unfold mL_c35 at hm
  obtain ⟨o101, o102, o103, o104, o105, o106, o107, hm⟩ := hm
  refine wc_aload_n (pc := 2627) (dAt dtL_law_c26 9 rfl) rfl (wc_aload_n (pc := 2628) (dAt dtL_law_c26 10 rfl) rfl (wc_iload (pc := 2629) (dAt dtL_law_c26 11 rfl) rfl (wc_iconst (pc := 2631) (dAt dtL_law_c26 12 rfl) ⟨by decide, by decide⟩ (wc_iadd (pc := 2632) (dAt dtL_law_c26 13 rfl) o101 (wc_iald (pc := 2633) (dAt dtL_law_c26 14 rfl) o102 o103 o104 (wc_aload_n (pc := 2634) (dAt dtL_law_c26 15 rfl) rfl (wc_iload (pc := 2635) (dAt dtL_law_c26 16 rfl) rfl (wc_iconst (pc := 2637) (dAt dtL_law_c26 17 rfl) ⟨by decide, by decide⟩ (wc_iadd (pc := 2638) (dAt dtL_law_c26 18 rfl) o105 (wc_iald (pc := 2639) (dAt dtL_law_c26 19 rfl) o102 o106 o107 (wc_kf hg fun zk => wc_callV (k := 1) (y' := tX1_spend) (av := [vI (hI h1 1 (Int.toNat (x4 + 1))), vI (hI h1 1 (Int.toNat (x4 + 2)))]) (st := []) (pc := 2640) (dAt dtL_law_c26 20 rfl) lkL_241 moX1_spend q661 q662 (by decide) (zk.2 _ ka50).1 rfl rfl (Nat.le_of_ble_eq_true rfl) (wX1_spend hg hm) (kr_I (fun x109 h108 hm => ?_)) (kx_I rfl))))))))))))
  obtain ⟨o110, o111, o112, hm⟩ := hm
  refine wc_aload_n (pc := 2643) (dAt dtL_law_c26 21 rfl) rfl (wc_aload_n (pc := 2644) (dAt dtL_law_c26 22 rfl) rfl (wc_iload (pc := 2645) (dAt dtL_law_c26 23 rfl) rfl (wc_iconst (pc := 2647) (dAt dtL_law_c26 24 rfl) ⟨by decide, by decide⟩ (wc_iadd (pc := 2648) (dAt dtL_law_c26 25 rfl) o101 (wc_iald (pc := 2649) (dAt dtL_law_c26 26 rfl) o110 o103 o111 (wc_aload_n (pc := 2650) (dAt dtL_law_c26 27 rfl) rfl (wc_iload (pc := 2651) (dAt dtL_law_c26 28 rfl) rfl (wc_iconst (pc := 2653) (dAt dtL_law_c26 29 rfl) ⟨by decide, by decide⟩ (wc_iadd (pc := 2654) (dAt dtL_law_c26 30 rfl) o105 (wc_iald (pc := 2655) (dAt dtL_law_c26 31 rfl) o110 o106 o112 (wc_kf hg fun zk => wc_callV (k := 4) (y' := tX4_spend) (av := [vI (hI h108 1 (Int.toNat (x4 + 1))), vI (hI h108 1 (Int.toNat (x4 + 2)))]) (st := [vI x109]) (pc := 2656) (dAt dtL_law_c26 32 rfl) lkL_245 moX4_spend q2920 q2921 (by decide) (zk.2 _ ka75).1 rfl rfl (Nat.le_of_ble_eq_true rfl) (wX4_spend hg hm) (kr_I (fun x114 h113 hm => ?_)) (kx_I rfl))))))))))))
  refine wc_icmp_eq (pc := 2659) (tgt := 2776) (dAt dtL_law_c26 33 rfl) (by decide) (fun c115 => ?_) (fun c115 => ?_)
  · replace hm := ite_f (fun z => z c115) hm
    exact kC _ hm
  · replace hm := ite_t c115 hm
    exact wc_iconst (pc := 2662) (dAt dtL_law_c26 34 rfl) ⟨by decide, by decide⟩ (wc_iret (pc := 2663) (dAt dtL_law_c26 35 rfl) rfl (nar_bool (Or.inl rfl)) hm)

def mL_c36 (C : Hp → Prop) (x4 : Int) (h1 : Hp) (Q : Rs → Hp → Prop) : Prop := nm (x4 + 1) ∧ ob h1 1 70 ∧ 0 ≤ (x4 + 1) ∧ (x4 + 1) < (hN h1 1) ∧ mX0_giftLeft (hI h1 1 (Int.toNat (x4 + 1))) h1 (kI Q (fun x106 h105 => ob h105 1 70 ∧ (x4 + 1) < (hN h105 1) ∧ mX4_giftLeft (hI h105 1 (Int.toNat (x4 + 1))) h105 (kI Q (fun x110 h109 => if ¬ ((vX4_thrown h109) = x106) then Q (rV (vI 0)) h109 else if ¬ (x106 ≠ 0) ∧ (¬ ((lcm (hL h109 158 0) x110) = 0)) then Q (rV (vI 0)) h109 else C h109))))
theorem wL_c36 {G : Gx} (hg : gF G = true) {d : Nat} {C : Hp → Prop} {x4 : Int} {h h1 : Hp} {Q : Rs → Hp → Prop} (kC : ∀ h2, C h2 → Wc G tL_law (d + 400) h Q 2776 [some (vR 1), some (vR 50), some (vR 75), some (vR 158), some (vI x4), none, none] [] h2) (hm : mL_c36 C x4 h1 Q) : Wc G tL_law (d + 400) h Q 2664 [some (vR 1), some (vR 50), some (vR 75), some (vR 158), some (vI x4), none, none] [] h1 := by
  unfold mL_c36 at hm
  obtain ⟨o101, o102, o103, o104, hm⟩ := hm
  refine wc_aload_n (pc := 2664) (dAt dtL_law_c26 36 rfl) rfl (wc_aload_n (pc := 2665) (dAt dtL_law_c26 37 rfl) rfl (wc_iload (pc := 2666) (dAt dtL_law_c26 38 rfl) rfl (wc_iconst (pc := 2668) (dAt dtL_law_c26 39 rfl) ⟨by decide, by decide⟩ (wc_iadd (pc := 2669) (dAt dtL_law_c26 40 rfl) o101 (wc_iald (pc := 2670) (dAt dtL_law_c26 41 rfl) o102 o103 o104 (wc_aload_n (pc := 2671) (dAt dtL_law_c26 42 rfl) rfl (wc_callS (y' := tX0_giftLeft) (av := [vR 50, vI (hI h1 1 (Int.toNat (x4 + 1))), vR 158]) (st := []) (pc := 2672) (dAt dtL_law_c26 43 rfl) lkL_246 moX0_giftLeft q2108 q127 rfl rfl (Nat.le_of_ble_eq_true rfl) (wX0_giftLeft hg hm) (kr_I (fun x106 h105 hm => ?_)) (kx_I rfl))))))))
  obtain ⟨o107, o108, hm⟩ := hm
  refine wc_istore (pc := 2675) (dAt dtL_law_c26 44 rfl) (by decide) (wc_L (L' := [some (vR 1), some (vR 50), some (vR 75), some (vR 158), some (vI x4), some (vI x106), none]) rfl (wc_aload_n (pc := 2677) (dAt dtL_law_c26 45 rfl) rfl (wc_aload_n (pc := 2678) (dAt dtL_law_c26 46 rfl) rfl (wc_iload (pc := 2679) (dAt dtL_law_c26 47 rfl) rfl (wc_iconst (pc := 2681) (dAt dtL_law_c26 48 rfl) ⟨by decide, by decide⟩ (wc_iadd (pc := 2682) (dAt dtL_law_c26 49 rfl) o101 (wc_iald (pc := 2683) (dAt dtL_law_c26 50 rfl) o107 o103 o108 (wc_kf hg fun zk => wc_callV (k := 4) (y' := tX4_giftLeft) (av := [vI (hI h105 1 (Int.toNat (x4 + 1)))]) (st := []) (pc := 2684) (dAt dtL_law_c26 51 rfl) lkL_248 moX4_giftLeft q2928 q2929 (by decide) (zk.2 _ ka75).1 rfl rfl (Nat.le_of_ble_eq_true rfl) (wX4_giftLeft hg hm) (kr_I (fun x110 h109 hm => ?_)) (kx_I rfl)))))))))
  refine wc_istore (pc := 2687) (dAt dtL_law_c26 52 rfl) (by decide) (wc_L (L' := [some (vR 1), some (vR 50), some (vR 75), some (vR 158), some (vI x4), some (vI x106), some (vI x110)]) rfl (wc_aload_n (pc := 2689) (dAt dtL_law_c26 53 rfl) rfl (wc_kf hg fun zk => wc_callV (k := 4) (y' := tX4_thrown) (P := eI (vX4_thrown h109) h109) (pc := 2690) (dAt dtL_law_c26 54 rfl) lkL_133 moX4_thrown q2122 q2123 (by decide) (zk.2 _ ka75).1 rfl rfl (Nat.le_of_ble_eq_true rfl) (wX4_thrown hg ⟨rfl, rfl⟩) (ep_I (wc_iload (pc := 2693) (dAt dtL_law_c26 55 rfl) rfl (wc_icmp_eq (pc := 2695) (tgt := 2700) (dAt dtL_law_c26 56 rfl) (by decide) (fun c111 => ?_) (fun c111 => ?_)))) ex_I)))
  · replace hm := ite_f (fun z => z c111) hm
    refine wc_iload (pc := 2700) (dAt dtL_law_c26 59 rfl) rfl (?_)
    have k113 : (¬ (x106 ≠ 0) ∧ (¬ ((lcm (hL h109 158 0) x110) = 0))) → Wc G tL_law (d + 400) h Q 2715 [some (vR 1), some (vR 50), some (vR 75), some (vR 158), some (vI x4), some (vI x106), some (vI x110)] [] h109 := fun c112 => by
      replace hm := ite_t c112 hm
      exact wc_iconst (pc := 2715) (dAt dtL_law_c27 4 rfl) ⟨by decide, by decide⟩ (wc_iret (pc := 2716) (dAt dtL_law_c27 5 rfl) rfl (nar_bool (Or.inl rfl)) hm)
    have k114 : ¬ (¬ (x106 ≠ 0) ∧ (¬ ((lcm (hL h109 158 0) x110) = 0))) → Wc G tL_law (d + 400) h Q 2717 [some (vR 1), some (vR 50), some (vR 75), some (vR 158), some (vI x4), some (vI x106), some (vI x110)] [] h109 := fun c112 => by
      replace hm := ite_f c112 hm
      exact wc_goto (pc := 2717) (tgt := 2776) (dAt dtL_law_c27 6 rfl) (by decide) (wc_drp [5, 6] rfl (kC _ hm))
    exact wc_if_ne (pc := 2702) (tgt := 2717) (dAt dtL_law_c26 60 rfl) (by decide) (fun c115 => (k114 (fun z => z.1 c115))) (fun c115 => wc_aload_n (pc := 2705) (dAt dtL_law_c26 61 rfl) rfl (wc_iconst (pc := 2706) (dAt dtL_law_c26 62 rfl) ⟨by decide, by decide⟩ (wc_laldK hg (pc := 2707) (dAt dtL_law_c26 63 rfl) kr158 (by decide) (by decide) (wc_iload (pc := 2708) (dAt dtL_law_c27 0 rfl) rfl (wc_i2l (pc := 2710) (dAt dtL_law_c27 1 rfl) (wc_lcmp (pc := 2711) (dAt dtL_law_c27 2 rfl) (wc_if_eq (pc := 2712) (tgt := 2717) (dAt dtL_law_c27 3 rfl) (by decide) (fun c116 => (k114 (fun z => (fun z => z c116) z.2))) (fun c116 => (k113 ⟨c115, c116⟩)))))))))
  · replace hm := ite_t c111 hm
    exact wc_iconst (pc := 2698) (dAt dtL_law_c26 57 rfl) ⟨by decide, by decide⟩ (wc_iret (pc := 2699) (dAt dtL_law_c26 58 rfl) rfl (nar_bool (Or.inl rfl)) hm)

def mL_c37 (C : Hp → Prop) (x4 : Int) (h1 : Hp) (Q : Rs → Hp → Prop) : Prop := nm (x4 + 1) ∧ ob h1 1 70 ∧ 0 ≤ (x4 + 1) ∧ (x4 + 1) < (hN h1 1) ∧ mX0_count (hI h1 1 (Int.toNat (x4 + 1))) h1 (kI Q (fun x106 h105 => ob h105 1 70 ∧ (x4 + 1) < (hN h105 1) ∧ mX4_count (hI h105 1 (Int.toNat (x4 + 1))) h105 (kI Q (fun x110 h109 => if ¬ ((vX4_thrown h109) = x106) then Q (rV (vI 0)) h109 else if ¬ (x106 ≠ 0) ∧ (¬ ((lcm (hL h109 158 0) x110) = 0)) then Q (rV (vI 0)) h109 else C h109))))
theorem wL_c37 {G : Gx} (hg : gF G = true) {d : Nat} {C : Hp → Prop} {x4 : Int} {h h1 : Hp} {Q : Rs → Hp → Prop} (kC : ∀ h2, C h2 → Wc G tL_law (d + 400) h Q 2776 [some (vR 1), some (vR 50), some (vR 75), some (vR 158), some (vI x4), none, none] [] h2) (hm : mL_c37 C x4 h1 Q) : Wc G tL_law (d + 400) h Q 2720 [some (vR 1), some (vR 50), some (vR 75), some (vR 158), some (vI x4), none, none] [] h1 := by
  unfold mL_c37 at hm
  obtain ⟨o101, o102, o103, o104, hm⟩ := hm
  refine wc_aload_n (pc := 2720) (dAt dtL_law_c27 7 rfl) rfl (wc_aload_n (pc := 2721) (dAt dtL_law_c27 8 rfl) rfl (wc_iload (pc := 2722) (dAt dtL_law_c27 9 rfl) rfl (wc_iconst (pc := 2724) (dAt dtL_law_c27 10 rfl) ⟨by decide, by decide⟩ (wc_iadd (pc := 2725) (dAt dtL_law_c27 11 rfl) o101 (wc_iald (pc := 2726) (dAt dtL_law_c27 12 rfl) o102 o103 o104 (wc_aload_n (pc := 2727) (dAt dtL_law_c27 13 rfl) rfl (wc_callS (y' := tX0_count) (av := [vR 50, vI (hI h1 1 (Int.toNat (x4 + 1))), vR 158]) (st := []) (pc := 2728) (dAt dtL_law_c27 14 rfl) lkL_249 moX0_count q2115 q127 rfl rfl (Nat.le_of_ble_eq_true rfl) (wX0_count hg hm) (kr_I (fun x106 h105 hm => ?_)) (kx_I rfl))))))))
  obtain ⟨o107, o108, hm⟩ := hm
  refine wc_istore (pc := 2731) (dAt dtL_law_c27 15 rfl) (by decide) (wc_L (L' := [some (vR 1), some (vR 50), some (vR 75), some (vR 158), some (vI x4), some (vI x106), none]) rfl (wc_aload_n (pc := 2733) (dAt dtL_law_c27 16 rfl) rfl (wc_aload_n (pc := 2734) (dAt dtL_law_c27 17 rfl) rfl (wc_iload (pc := 2735) (dAt dtL_law_c27 18 rfl) rfl (wc_iconst (pc := 2737) (dAt dtL_law_c27 19 rfl) ⟨by decide, by decide⟩ (wc_iadd (pc := 2738) (dAt dtL_law_c27 20 rfl) o101 (wc_iald (pc := 2739) (dAt dtL_law_c27 21 rfl) o107 o103 o108 (wc_kf hg fun zk => wc_callV (k := 4) (y' := tX4_count) (av := [vI (hI h105 1 (Int.toNat (x4 + 1)))]) (st := []) (pc := 2740) (dAt dtL_law_c27 22 rfl) lkL_251 moX4_count q2932 q2933 (by decide) (zk.2 _ ka75).1 rfl rfl (Nat.le_of_ble_eq_true rfl) (wX4_count hg hm) (kr_I (fun x110 h109 hm => ?_)) (kx_I rfl)))))))))
  refine wc_istore (pc := 2743) (dAt dtL_law_c27 23 rfl) (by decide) (wc_L (L' := [some (vR 1), some (vR 50), some (vR 75), some (vR 158), some (vI x4), some (vI x106), some (vI x110)]) rfl (wc_aload_n (pc := 2745) (dAt dtL_law_c27 24 rfl) rfl (wc_kf hg fun zk => wc_callV (k := 4) (y' := tX4_thrown) (P := eI (vX4_thrown h109) h109) (pc := 2746) (dAt dtL_law_c27 25 rfl) lkL_133 moX4_thrown q2122 q2123 (by decide) (zk.2 _ ka75).1 rfl rfl (Nat.le_of_ble_eq_true rfl) (wX4_thrown hg ⟨rfl, rfl⟩) (ep_I (wc_iload (pc := 2749) (dAt dtL_law_c27 26 rfl) rfl (wc_icmp_eq (pc := 2751) (tgt := 2756) (dAt dtL_law_c27 27 rfl) (by decide) (fun c111 => ?_) (fun c111 => ?_)))) ex_I)))
  · replace hm := ite_f (fun z => z c111) hm
    refine wc_iload (pc := 2756) (dAt dtL_law_c27 30 rfl) rfl (?_)
    have k113 : (¬ (x106 ≠ 0) ∧ (¬ ((lcm (hL h109 158 0) x110) = 0))) → Wc G tL_law (d + 400) h Q 2771 [some (vR 1), some (vR 50), some (vR 75), some (vR 158), some (vI x4), some (vI x106), some (vI x110)] [] h109 := fun c112 => by
      replace hm := ite_t c112 hm
      exact wc_iconst (pc := 2771) (dAt dtL_law_c27 39 rfl) ⟨by decide, by decide⟩ (wc_iret (pc := 2772) (dAt dtL_law_c27 40 rfl) rfl (nar_bool (Or.inl rfl)) hm)
    have k114 : ¬ (¬ (x106 ≠ 0) ∧ (¬ ((lcm (hL h109 158 0) x110) = 0))) → Wc G tL_law (d + 400) h Q 2773 [some (vR 1), some (vR 50), some (vR 75), some (vR 158), some (vI x4), some (vI x106), some (vI x110)] [] h109 := fun c112 => by
      replace hm := ite_f c112 hm
      exact wc_goto (pc := 2773) (tgt := 2776) (dAt dtL_law_c27 41 rfl) (by decide) (wc_drp [5, 6] rfl (kC _ hm))
    exact wc_if_ne (pc := 2758) (tgt := 2773) (dAt dtL_law_c27 31 rfl) (by decide) (fun c115 => (k114 (fun z => z.1 c115))) (fun c115 => wc_aload_n (pc := 2761) (dAt dtL_law_c27 32 rfl) rfl (wc_iconst (pc := 2762) (dAt dtL_law_c27 33 rfl) ⟨by decide, by decide⟩ (wc_laldK hg (pc := 2763) (dAt dtL_law_c27 34 rfl) kr158 (by decide) (by decide) (wc_iload (pc := 2764) (dAt dtL_law_c27 35 rfl) rfl (wc_i2l (pc := 2766) (dAt dtL_law_c27 36 rfl) (wc_lcmp (pc := 2767) (dAt dtL_law_c27 37 rfl) (wc_if_eq (pc := 2768) (tgt := 2773) (dAt dtL_law_c27 38 rfl) (by decide) (fun c116 => (k114 (fun z => (fun z => z c116) z.2))) (fun c116 => (k113 ⟨c115, c116⟩)))))))))
  · replace hm := ite_t c111 hm
    exact wc_iconst (pc := 2754) (dAt dtL_law_c27 28 rfl) ⟨by decide, by decide⟩ (wc_iret (pc := 2755) (dAt dtL_law_c27 29 rfl) rfl (nar_bool (Or.inl rfl)) hm)

def mL_pre (C : Nat → Nat → Nat → Hp → Prop) (h : Hp) (Q : Rs → Hp → Prop) : Prop := hn h + 1 ≤ 878547 ∧ hq h + 28 ≤ 6460613 ∧ ∀ r104 : Nat, r104 = hn h → ∀ h105 : Hp, h105 = nw h 1 0 28 → mX1_init r104 h105 (kN Q (fun h106 => hn h106 + 1 ≤ 878547 ∧ hq h106 + 117 ≤ 6460613 ∧ ∀ r110 : Nat, r110 = hn h106 → ∀ h111 : Hp, h111 = nw h106 4 0 117 → mX4_init r110 h111 (kN Q (fun h112 => hn h112 + 1 ≤ 878547 ∧ hq h112 + 1 ≤ 6460613 ∧ ∀ r116 : Nat, r116 = hn h112 → ∀ h117 : Hp, h117 = nw h112 73 1 1 → C r104 r110 r116 h117))))
theorem wL_pre {G : Gx} (hg : gF G = false) {d : Nat} {C : Nat → Nat → Nat → Hp → Prop} {h : Hp} {Q : Rs → Hp → Prop} (kC : ∀ rx rm ro h2, C rx rm ro h2 → Wc G tL_law (d + 400) h Q 23 [some (vR 1), some (vR rx), some (vR rm), some (vR ro), some (vI 0), none, none] [] h2) (hm : mL_pre C h Q) : Wc G tL_law (d + 400) h Q 0 [some (vR 1), none, none, none, none, none, none] [] h := by
  unfold mL_pre at hm
  obtain ⟨o101, o102, hm⟩ := hm
  obtain ⟨r104, er104⟩ : ∃ r104 : Nat, r104 = hn h := ⟨_, rfl⟩
  replace hm := hm r104 er104
  obtain ⟨h105, eh105⟩ : ∃ h105 : Hp, h105 = nw h 1 0 28 := ⟨_, rfl⟩
  replace hm := hm h105 eh105
  refine wc_k0 fun n103 => (wc_new (k := 1) (pc := 0) (dAt dtL_law_c0 0 rfl) q174 q175 q128 (by decide) o101 o102 (wc_hp eh105 (wc_vr er104 (wc_dup (pc := 3) (dAt dtL_law_c0 1 rfl) rfl (wc_callI (y' := tX1_init) (av := []) (st := [vR r104]) (pc := 4) (dAt dtL_law_c0 2 rfl) lkL_110 moX1_init q177 rfl q178 (k0_at er104 n103) rfl rfl (Nat.le_of_ble_eq_true rfl) (wX1_init hg hm) (kr_N (fun h106 hm => ?_)) (kx_N rfl))))))
  obtain ⟨o107, o108, hm⟩ := hm
  obtain ⟨r110, er110⟩ : ∃ r110 : Nat, r110 = hn h106 := ⟨_, rfl⟩
  replace hm := hm r110 er110
  obtain ⟨h111, eh111⟩ : ∃ h111 : Hp, h111 = nw h106 4 0 117 := ⟨_, rfl⟩
  replace hm := hm h111 eh111
  refine wc_astore_n (pc := 7) (dAt dtL_law_c0 3 rfl) (by decide) (wc_L (L' := [some (vR 1), some (vR r104), none, none, none, none, none]) rfl (wc_k0 fun n109 => (wc_new (k := 4) (pc := 8) (dAt dtL_law_c0 4 rfl) q2166 q2136 q134 (by decide) o107 o108 (wc_hp eh111 (wc_vr er110 (wc_dup (pc := 11) (dAt dtL_law_c0 5 rfl) rfl (wc_callI (y' := tX4_init) (av := []) (st := [vR r110]) (pc := 12) (dAt dtL_law_c0 6 rfl) lkL_113 moX4_init q2168 rfl q2169 (k0_at er110 n109) rfl rfl (Nat.le_of_ble_eq_true rfl) (wX4_init hg hm) (kr_N (fun h112 hm => ?_)) (kx_N rfl))))))))
  obtain ⟨o113, o114, hm⟩ := hm
  obtain ⟨r116, er116⟩ : ∃ r116 : Nat, r116 = hn h112 := ⟨_, rfl⟩
  replace hm := hm r116 er116
  obtain ⟨h117, eh117⟩ : ∃ h117 : Hp, h117 = nw h112 73 1 1 := ⟨_, rfl⟩
  replace hm := hm h117 eh117
  exact wc_astore_n (pc := 15) (dAt dtL_law_c0 7 rfl) (by decide) (wc_L (L' := [some (vR 1), some (vR r104), some (vR r110), none, none, none, none]) rfl (wc_iconst (pc := 16) (dAt dtL_law_c0 8 rfl) ⟨by decide, by decide⟩ (wc_k0 fun n115 => (wc_newarr (t := 73) (pc := 17) (dAt dtL_law_c0 9 rfl) rfl ⟨by decide, by decide⟩ q2526 (by decide) (by decide) o113 o114 (wc_hp eh117 (wc_vr er116 (wc_astore_n (pc := 19) (dAt dtL_law_c0 10 rfl) (by decide) (wc_L (L' := [some (vR 1), some (vR r104), some (vR r110), some (vR r116), none, none, none]) rfl (wc_iconst (pc := 20) (dAt dtL_law_c0 11 rfl) ⟨by decide, by decide⟩ (wc_istore (pc := 21) (dAt dtL_law_c0 12 rfl) (by decide) (wc_L (L' := [some (vR 1), some (vR r104), some (vR r110), some (vR r116), some (vI 0), none, none]) rfl (kC _ _ _ _ hm))))))))))))

def mL_step (C : Int → Hp → Prop) (x4 : Int) (h1 : Hp) (Q : Rs → Hp → Prop) : Prop := ob h1 1 70 ∧ nm (hN h1 1 : Int) ∧ nm ((hN h1 1 : Int) - 9) ∧ (if (hN h1 1 : Int) - 9 < x4 then Q (rV (vI 1)) h1 else 0 ≤ x4 ∧ x4 < hN h1 1 ∧ nm (x4 + 9) ∧ if iand (hI h1 1 (Int.toNat x4)) 63 = 0 then mL_c0 (C (x4 + 9)) x4 h1 Q else if iand (hI h1 1 (Int.toNat x4)) 63 = 1 then mL_c1 (C (x4 + 9)) x4 h1 Q else if iand (hI h1 1 (Int.toNat x4)) 63 = 2 then mL_c2 (C (x4 + 9)) x4 h1 Q else if iand (hI h1 1 (Int.toNat x4)) 63 = 3 then mL_c3 (C (x4 + 9)) x4 h1 Q else if iand (hI h1 1 (Int.toNat x4)) 63 = 4 then mL_c4 (C (x4 + 9)) x4 h1 Q else if iand (hI h1 1 (Int.toNat x4)) 63 = 5 then mL_c5 (C (x4 + 9)) x4 h1 Q else if iand (hI h1 1 (Int.toNat x4)) 63 = 6 then mL_c6 (C (x4 + 9)) x4 h1 Q else if iand (hI h1 1 (Int.toNat x4)) 63 = 7 then mL_c7 (C (x4 + 9)) x4 h1 Q else if iand (hI h1 1 (Int.toNat x4)) 63 = 8 then mL_c8 (C (x4 + 9)) x4 h1 Q else if iand (hI h1 1 (Int.toNat x4)) 63 = 9 then mL_c9 (C (x4 + 9)) x4 h1 Q else if iand (hI h1 1 (Int.toNat x4)) 63 = 10 then mL_c10 (C (x4 + 9)) x4 h1 Q else if iand (hI h1 1 (Int.toNat x4)) 63 = 11 then mL_c11 (C (x4 + 9)) x4 h1 Q else if iand (hI h1 1 (Int.toNat x4)) 63 = 12 then mL_c12 (C (x4 + 9)) x4 h1 Q else if iand (hI h1 1 (Int.toNat x4)) 63 = 13 then mL_c13 (C (x4 + 9)) x4 h1 Q else if iand (hI h1 1 (Int.toNat x4)) 63 = 14 then mL_c14 (C (x4 + 9)) x4 h1 Q else if iand (hI h1 1 (Int.toNat x4)) 63 = 15 then mL_c15 (C (x4 + 9)) x4 h1 Q else if iand (hI h1 1 (Int.toNat x4)) 63 = 16 then mL_c16 (C (x4 + 9)) x4 h1 Q else if iand (hI h1 1 (Int.toNat x4)) 63 = 17 then mL_c17 (C (x4 + 9)) x4 h1 Q else if iand (hI h1 1 (Int.toNat x4)) 63 = 18 then mL_c18 (C (x4 + 9)) x4 h1 Q else if iand (hI h1 1 (Int.toNat x4)) 63 = 19 then mL_c19 (C (x4 + 9)) x4 h1 Q else if iand (hI h1 1 (Int.toNat x4)) 63 = 20 then mL_c20 (C (x4 + 9)) x4 h1 Q else if iand (hI h1 1 (Int.toNat x4)) 63 = 21 then mL_c21 (C (x4 + 9)) x4 h1 Q else if iand (hI h1 1 (Int.toNat x4)) 63 = 22 then mL_c22 (C (x4 + 9)) x4 h1 Q else if iand (hI h1 1 (Int.toNat x4)) 63 = 23 then mL_c23 (C (x4 + 9)) x4 h1 Q else if iand (hI h1 1 (Int.toNat x4)) 63 = 24 then mL_c24 (C (x4 + 9)) x4 h1 Q else if iand (hI h1 1 (Int.toNat x4)) 63 = 25 then mL_c25 (C (x4 + 9)) x4 h1 Q else if iand (hI h1 1 (Int.toNat x4)) 63 = 26 then mL_c26 (C (x4 + 9)) x4 h1 Q else if iand (hI h1 1 (Int.toNat x4)) 63 = 27 then mL_c27 (C (x4 + 9)) x4 h1 Q else if iand (hI h1 1 (Int.toNat x4)) 63 = 28 then mL_c28 (C (x4 + 9)) x4 h1 Q else if iand (hI h1 1 (Int.toNat x4)) 63 = 29 then mL_c29 (C (x4 + 9)) x4 h1 Q else if iand (hI h1 1 (Int.toNat x4)) 63 = 30 then mL_c30 (C (x4 + 9)) x4 h1 Q else if iand (hI h1 1 (Int.toNat x4)) 63 = 31 then mL_c31 (C (x4 + 9)) x4 h1 Q else if iand (hI h1 1 (Int.toNat x4)) 63 = 32 then mL_c32 (C (x4 + 9)) x4 h1 Q else if iand (hI h1 1 (Int.toNat x4)) 63 = 33 then mL_c33 (C (x4 + 9)) x4 h1 Q else if iand (hI h1 1 (Int.toNat x4)) 63 = 34 then mL_c34 (C (x4 + 9)) x4 h1 Q else if iand (hI h1 1 (Int.toNat x4)) 63 = 35 then mL_c35 (C (x4 + 9)) x4 h1 Q else if iand (hI h1 1 (Int.toNat x4)) 63 = 36 then mL_c36 (C (x4 + 9)) x4 h1 Q else if iand (hI h1 1 (Int.toNat x4)) 63 = 37 then mL_c37 (C (x4 + 9)) x4 h1 Q else C (x4 + 9) h1)
theorem wL_step {G : Gx} (hg : gF G = true) {d : Nat} {C : Int → Hp → Prop} {x4 : Int} {h h1 : Hp} {Q : Rs → Hp → Prop} (ih : ∀ x h2, C x h2 → Wc G tL_law (d + 400) h Q 23 [some (vR 1), some (vR 50), some (vR 75), some (vR 158), some (vI x), none, none] [] h2) (hm : mL_step C x4 h1 Q) : Wc G tL_law (d + 400) h Q 23 [some (vR 1), some (vR 50), some (vR 75), some (vR 158), some (vI x4), none, none] [] h1 := by
  unfold mL_step at hm
  obtain ⟨o1, o2, o3, hm⟩ := hm
  refine wc_iload (pc := 23) (dAt dtL_law_c0 13 rfl) rfl (wc_aload_n (pc := 25) (dAt dtL_law_c0 14 rfl) rfl (wc_alen (pc := 26) (dAt dtL_law_c0 15 rfl) ⟨by decide, by decide⟩ o1 o2 (wc_bipush (pc := 27) (dAt dtL_law_c0 16 rfl) ⟨by decide, by decide, by decide⟩ (wc_isub (pc := 29) (dAt dtL_law_c0 17 rfl) o3 (wc_icmp_gt (pc := 30) (tgt := 2782) (dAt dtL_law_c0 18 rfl) (by decide) (fun c => ?_) (fun c => ?_))))))
  · replace hm := ite_t c hm
    exact wc_iconst (pc := 2782) (dAt dtL_law_c27 44 rfl) ⟨by decide, by decide⟩ (wc_iret (pc := 2783) (dAt dtL_law_c27 45 rfl) rfl (nar_bool (Or.inr rfl)) hm)
  · replace hm := ite_f c hm
    obtain ⟨p1, p2, p3, hm⟩ := hm
    have kC : ∀ h2, C (x4 + 9) h2 → Wc G tL_law (d + 400) h Q 2776 [some (vR 1), some (vR 50), some (vR 75), some (vR 158), some (vI x4), none, none] [] h2 := fun h2 hm => wc_iinc (v := x4 + 9) (pc := 2776) (dAt dtL_law_c27 42 rfl) rfl rfl p3 (by decide) (wc_L (L' := [some (vR 1), some (vR 50), some (vR 75), some (vR 158), some (vI (x4 + 9)), none, none]) rfl (wc_goto (pc := 2779) (tgt := 23) (dAt dtL_law_c27 43 rfl) (by decide) (ih _ _ hm)))
    refine wc_aload_n (pc := 33) (dAt dtL_law_c0 19 rfl) rfl (wc_iload (pc := 34) (dAt dtL_law_c0 20 rfl) rfl (wc_iald (pc := 36) (dAt dtL_law_c0 21 rfl) o1 p1 p2 (wc_bipush (pc := 37) (dAt dtL_law_c0 22 rfl) ⟨by decide, by decide, by decide⟩ (wc_iand (pc := 39) (dAt dtL_law_c0 23 rfl) ?_))))
    obtain ⟨z, ez⟩ : ∃ z : Int, z = iand (hI h1 1 (Int.toNat x4)) 63 := ⟨_, rfl⟩
    rw [← ez] at hm
    rw [← ez]
    by_cases c0 : z = 0
    · exact wc_tableIn (pc := 40) (tgt := 208) (dAt dtL_law_c0 24 rfl) (by omega) (by omega) (by rw [c0]; rfl) (by decide) (wL_c0 hg kC (ite_t c0 hm))
    replace hm := ite_f c0 hm
    by_cases c1 : z = 1
    · exact wc_tableIn (pc := 40) (tgt := 269) (dAt dtL_law_c0 24 rfl) (by omega) (by omega) (by rw [c1]; rfl) (by decide) (wL_c1 hg kC (ite_t c1 hm))
    replace hm := ite_f c1 hm
    by_cases c2 : z = 2
    · exact wc_tableIn (pc := 40) (tgt := 342) (dAt dtL_law_c0 24 rfl) (by omega) (by omega) (by rw [c2]; rfl) (by decide) (wL_c2 hg kC (ite_t c2 hm))
    replace hm := ite_f c2 hm
    by_cases c3 : z = 3
    · exact wc_tableIn (pc := 40) (tgt := 379) (dAt dtL_law_c0 24 rfl) (by omega) (by omega) (by rw [c3]; rfl) (by decide) (wL_c3 hg kC (ite_t c3 hm))
    replace hm := ite_f c3 hm
    by_cases c4 : z = 4
    · exact wc_tableIn (pc := 40) (tgt := 447) (dAt dtL_law_c0 24 rfl) (by omega) (by omega) (by rw [c4]; rfl) (by decide) (wL_c4 hg kC (ite_t c4 hm))
    replace hm := ite_f c4 hm
    by_cases c5 : z = 5
    · exact wc_tableIn (pc := 40) (tgt := 520) (dAt dtL_law_c0 24 rfl) (by omega) (by omega) (by rw [c5]; rfl) (by decide) (wL_c5 hg kC (ite_t c5 hm))
    replace hm := ite_f c5 hm
    by_cases c6 : z = 6
    · exact wc_tableIn (pc := 40) (tgt := 576) (dAt dtL_law_c0 24 rfl) (by omega) (by omega) (by rw [c6]; rfl) (by decide) (wL_c6 hg kC (ite_t c6 hm))
    replace hm := ite_f c6 hm
    by_cases c7 : z = 7
    · exact wc_tableIn (pc := 40) (tgt := 589) (dAt dtL_law_c0 24 rfl) (by omega) (by omega) (by rw [c7]; rfl) (by decide) (wL_c7 hg kC (ite_t c7 hm))
    replace hm := ite_f c7 hm
    by_cases c8 : z = 8
    · exact wc_tableIn (pc := 40) (tgt := 645) (dAt dtL_law_c0 24 rfl) (by omega) (by omega) (by rw [c8]; rfl) (by decide) (wL_c8 hg kC (ite_t c8 hm))
    replace hm := ite_f c8 hm
    by_cases c9 : z = 9
    · exact wc_tableIn (pc := 40) (tgt := 701) (dAt dtL_law_c0 24 rfl) (by omega) (by omega) (by rw [c9]; rfl) (by decide) (wL_c9 hg kC (ite_t c9 hm))
    replace hm := ite_f c9 hm
    by_cases c10 : z = 10
    · exact wc_tableIn (pc := 40) (tgt := 788) (dAt dtL_law_c0 24 rfl) (by omega) (by omega) (by rw [c10]; rfl) (by decide) (wL_c10 hg kC (ite_t c10 hm))
    replace hm := ite_f c10 hm
    by_cases c11 : z = 11
    · exact wc_tableIn (pc := 40) (tgt := 868) (dAt dtL_law_c0 24 rfl) (by omega) (by omega) (by rw [c11]; rfl) (by decide) (wL_c11 hg kC (ite_t c11 hm))
    replace hm := ite_f c11 hm
    by_cases c12 : z = 12
    · exact wc_tableIn (pc := 40) (tgt := 1000) (dAt dtL_law_c0 24 rfl) (by omega) (by omega) (by rw [c12]; rfl) (by decide) (wL_c12 hg kC (ite_t c12 hm))
    replace hm := ite_f c12 hm
    by_cases c13 : z = 13
    · exact wc_tableIn (pc := 40) (tgt := 1087) (dAt dtL_law_c0 24 rfl) (by omega) (by omega) (by rw [c13]; rfl) (by decide) (wL_c13 hg kC (ite_t c13 hm))
    replace hm := ite_f c13 hm
    by_cases c14 : z = 14
    · exact wc_tableIn (pc := 40) (tgt := 1155) (dAt dtL_law_c0 24 rfl) (by omega) (by omega) (by rw [c14]; rfl) (by decide) (wL_c14 hg kC (ite_t c14 hm))
    replace hm := ite_f c14 hm
    by_cases c15 : z = 15
    · exact wc_tableIn (pc := 40) (tgt := 1223) (dAt dtL_law_c0 24 rfl) (by omega) (by omega) (by rw [c15]; rfl) (by decide) (wL_c15 hg kC (ite_t c15 hm))
    replace hm := ite_f c15 hm
    by_cases c16 : z = 16
    · exact wc_tableIn (pc := 40) (tgt := 1291) (dAt dtL_law_c0 24 rfl) (by omega) (by omega) (by rw [c16]; rfl) (by decide) (wL_c16 hg kC (ite_t c16 hm))
    replace hm := ite_f c16 hm
    by_cases c17 : z = 17
    · exact wc_tableIn (pc := 40) (tgt := 1347) (dAt dtL_law_c0 24 rfl) (by omega) (by omega) (by rw [c17]; rfl) (by decide) (wL_c17 hg kC (ite_t c17 hm))
    replace hm := ite_f c17 hm
    by_cases c18 : z = 18
    · exact wc_tableIn (pc := 40) (tgt := 1403) (dAt dtL_law_c0 24 rfl) (by omega) (by omega) (by rw [c18]; rfl) (by decide) (wL_c18 hg kC (ite_t c18 hm))
    replace hm := ite_f c18 hm
    by_cases c19 : z = 19
    · exact wc_tableIn (pc := 40) (tgt := 1494) (dAt dtL_law_c0 24 rfl) (by omega) (by omega) (by rw [c19]; rfl) (by decide) (wL_c19 hg kC (ite_t c19 hm))
    replace hm := ite_f c19 hm
    by_cases c20 : z = 20
    · exact wc_tableIn (pc := 40) (tgt := 1562) (dAt dtL_law_c0 24 rfl) (by omega) (by omega) (by rw [c20]; rfl) (by decide) (wL_c20 hg kC (ite_t c20 hm))
    replace hm := ite_f c20 hm
    by_cases c21 : z = 21
    · exact wc_tableIn (pc := 40) (tgt := 1708) (dAt dtL_law_c0 24 rfl) (by omega) (by omega) (by rw [c21]; rfl) (by decide) (wL_c21 hg kC (ite_t c21 hm))
    replace hm := ite_f c21 hm
    by_cases c22 : z = 22
    · exact wc_tableIn (pc := 40) (tgt := 1721) (dAt dtL_law_c0 24 rfl) (by omega) (by omega) (by rw [c22]; rfl) (by decide) (wL_c22 hg kC (ite_t c22 hm))
    replace hm := ite_f c22 hm
    by_cases c23 : z = 23
    · exact wc_tableIn (pc := 40) (tgt := 1801) (dAt dtL_law_c0 24 rfl) (by omega) (by omega) (by rw [c23]; rfl) (by decide) (wL_c23 hg kC (ite_t c23 hm))
    replace hm := ite_f c23 hm
    by_cases c24 : z = 24
    · exact wc_tableIn (pc := 40) (tgt := 1857) (dAt dtL_law_c0 24 rfl) (by omega) (by omega) (by rw [c24]; rfl) (by decide) (wL_c24 hg kC (ite_t c24 hm))
    replace hm := ite_f c24 hm
    by_cases c25 : z = 25
    · exact wc_tableIn (pc := 40) (tgt := 1937) (dAt dtL_law_c0 24 rfl) (by omega) (by omega) (by rw [c25]; rfl) (by decide) (wL_c25 hg kC (ite_t c25 hm))
    replace hm := ite_f c25 hm
    by_cases c26 : z = 26
    · exact wc_tableIn (pc := 40) (tgt := 2005) (dAt dtL_law_c0 24 rfl) (by omega) (by omega) (by rw [c26]; rfl) (by decide) (wL_c26 hg kC (ite_t c26 hm))
    replace hm := ite_f c26 hm
    by_cases c27 : z = 27
    · exact wc_tableIn (pc := 40) (tgt := 2061) (dAt dtL_law_c0 24 rfl) (by omega) (by omega) (by rw [c27]; rfl) (by decide) (wL_c27 hg kC (ite_t c27 hm))
    replace hm := ite_f c27 hm
    by_cases c28 : z = 28
    · exact wc_tableIn (pc := 40) (tgt := 2110) (dAt dtL_law_c0 24 rfl) (by omega) (by omega) (by rw [c28]; rfl) (by decide) (wL_c28 hg kC (ite_t c28 hm))
    replace hm := ite_f c28 hm
    by_cases c29 : z = 29
    · exact wc_tableIn (pc := 40) (tgt := 2202) (dAt dtL_law_c0 24 rfl) (by omega) (by omega) (by rw [c29]; rfl) (by decide) (wL_c29 hg kC (ite_t c29 hm))
    replace hm := ite_f c29 hm
    by_cases c30 : z = 30
    · exact wc_tableIn (pc := 40) (tgt := 2258) (dAt dtL_law_c0 24 rfl) (by omega) (by omega) (by rw [c30]; rfl) (by decide) (wL_c30 hg kC (ite_t c30 hm))
    replace hm := ite_f c30 hm
    by_cases c31 : z = 31
    · exact wc_tableIn (pc := 40) (tgt := 2338) (dAt dtL_law_c0 24 rfl) (by omega) (by omega) (by rw [c31]; rfl) (by decide) (wL_c31 hg kC (ite_t c31 hm))
    replace hm := ite_f c31 hm
    by_cases c32 : z = 32
    · exact wc_tableIn (pc := 40) (tgt := 2418) (dAt dtL_law_c0 24 rfl) (by omega) (by omega) (by rw [c32]; rfl) (by decide) (wL_c32 hg kC (ite_t c32 hm))
    replace hm := ite_f c32 hm
    by_cases c33 : z = 33
    · exact wc_tableIn (pc := 40) (tgt := 2498) (dAt dtL_law_c0 24 rfl) (by omega) (by omega) (by rw [c33]; rfl) (by decide) (wL_c33 hg kC (ite_t c33 hm))
    replace hm := ite_f c33 hm
    by_cases c34 : z = 34
    · exact wc_tableIn (pc := 40) (tgt := 2578) (dAt dtL_law_c0 24 rfl) (by omega) (by omega) (by rw [c34]; rfl) (by decide) (wL_c34 hg kC (ite_t c34 hm))
    replace hm := ite_f c34 hm
    by_cases c35 : z = 35
    · exact wc_tableIn (pc := 40) (tgt := 2627) (dAt dtL_law_c0 24 rfl) (by omega) (by omega) (by rw [c35]; rfl) (by decide) (wL_c35 hg kC (ite_t c35 hm))
    replace hm := ite_f c35 hm
    by_cases c36 : z = 36
    · exact wc_tableIn (pc := 40) (tgt := 2664) (dAt dtL_law_c0 24 rfl) (by omega) (by omega) (by rw [c36]; rfl) (by decide) (wL_c36 hg kC (ite_t c36 hm))
    replace hm := ite_f c36 hm
    by_cases c37 : z = 37
    · exact wc_tableIn (pc := 40) (tgt := 2720) (dAt dtL_law_c0 24 rfl) (by omega) (by omega) (by rw [c37]; rfl) (by decide) (wL_c37 hg kC (ite_t c37 hm))
    replace hm := ite_f c37 hm
    exact wc_tableOut (pc := 40) (tgt := 2776) (dAt dtL_law_c0 24 rfl) (by omega) (by decide) (kC _ hm)

