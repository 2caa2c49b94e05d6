/-! HairRopeModel.<init>: its last steps over the model's cells. Printed by wip/D-73134w/gen/mtail.py -/
set_option maxRecDepth 100000
def gm_initT (M : zm_S) : Option zm_S :=
(gm_plain M 0).bind fun M1 =>
(gm_plain M1 1).bind fun M2 =>
(gm_letters 104 111 117 115 101 0 0).bind fun l3 =>
(zs_ast 22 0 (zm_sL M2 9 0 l3)).bind fun M4 =>
(gm_letters 108 105 107 101 115 0 0).bind fun l5 =>
(zs_ast 22 1 (zm_sL M4 9 1 l5)).bind fun M6 =>
(gm_letters 119 101 108 108 0 0 0).bind fun l7 =>
(zs_ast 22 2 (zm_sL M6 9 2 l7)).bind fun M8 =>
(gm_letters 119 97 116 101 114 0 0).bind fun l9 =>
(zs_ast 22 3 (zm_sL M8 9 3 l9)).bind fun M10 =>
(gm_letters 103 114 111 119 115 0 0).bind fun l11 =>
(zs_ast 22 4 (zm_sL M10 9 4 l11)).bind fun M12 =>
(gm_letters 119 101 97 107 101 110 115).bind fun l13 =>
(zs_ast 22 5 (zm_sL M12 9 5 l13)).bind fun M14 =>
(gm_letters 106 111 105 110 115 0 0).bind fun l15 =>
(zs_ast 22 6 (zm_sL M14 9 6 l15)).bind fun M16 =>
(gm_letters 99 111 115 116 115 0 0).bind fun l17 =>
(zs_ast 22 7 (zm_sL M16 9 7 l17)).bind fun M18 =>
(gm_letters 98 108 105 103 104 116 0).bind fun l19 =>
(zs_ast 22 8 (zm_sL M18 9 8 l19)).bind fun M20 =>
(gm_letters 115 101 101 100 0 0 0).bind fun l21 =>
(zs_ast 22 9 (zm_sL M20 9 9 l21)).bind fun M22 =>
(gm_letters 105 102 0 0 0 0 0).bind fun l23 =>
(zs_ast 22 10 (zm_sL M22 9 10 l23)).bind fun M24 =>
(gm_letters 116 104 101 110 0 0 0).bind fun l25 =>
(zs_ast 22 11 (zm_sL M24 9 11 l25)).bind fun M26 =>
(gm_letters 101 108 115 101 0 0 0).bind fun l27 =>
(zs_ast 22 12 (zm_sL M26 9 12 l27)).bind fun M28 =>
(gm_letters 104 97 105 114 0 0 0).bind fun l29 =>
(zs_ast 22 13 (zm_sL M28 9 13 l29)).bind fun M30 =>
(gm_letters 115 116 114 111 110 103 0).bind fun l31 =>
(zs_ast 22 14 (zm_sL M30 9 14 l31)).bind fun M32 =>
(gm_letters 108 105 107 101 0 0 0).bind fun l33 =>
(zs_ast 22 15 (zm_sL M32 9 15 l33)).bind fun M34 =>
(gm_letters 121 101 97 114 0 0 0).bind fun l35 =>
(zs_ast 22 16 (zm_sL M34 9 16 l35)).bind fun M36 =>
(gm_letters 112 108 97 99 101 0 0).bind fun l37 =>
(zs_ast 22 17 (zm_sL M36 9 17 l37)).bind fun M38 =>
(gm_letters 119 104 105 99 104 0 0).bind fun l39 =>
(zs_ast 22 18 (zm_sL M38 9 18 l39)).bind fun M40 =>
(gm_letters 115 112 108 105 99 101 100).bind fun l41 =>
(zs_ast 22 19 (zm_sL M40 9 19 l41)).bind fun M42 =>
(gm_letters 103 105 118 101 110 0 0).bind fun l43 =>
(zs_ast 22 20 (zm_sL M42 9 20 l43)).bind fun M44 =>
(gm_letters 111 116 104 101 114 0 0).bind fun l45 =>
(zs_ast 22 21 (zm_sL M44 9 21 l45)).bind fun M46 =>
(gm_begins M46).bind fun M47 =>
(gm_keepsRow M47).bind fun M48 =>
some M48
set_option maxHeartbeats 4000000 in
theorem km_initT (D : zs_D) (h0 : zs_AH) (m : Nat) (M : zm_S) : zs_Sim D (zm_R h0 m) zm_bd (zs_Fn D (zm_R h0 m) zs_eV) RX10 cX10_init 1 none "<init>" 2 M 401 [(0, .ref m)] [] (gm_initT M) (fun x => some ((), x)) := by
  unfold gm_initT
  refine zs_aload_n (pc := 401) 0 dX10_init_401 rfl rfl ?_
  refine zs_iconst (pc := 402) (v := 0) dX10_init_402 rfl ?_
  refine zs_callVv (pc := 403) [.int 0] [] (km_plain D h0 m M 0) kv_plain q1515 zc_X10 zm_recv dX10_init_403 rfl rfl (Nat.le_of_ble_eq_true rfl) (Nat.le_of_ble_eq_true rfl) (fun M1 => ?_)
  refine zs_aload_n (pc := 406) 0 dX10_init_406 rfl rfl ?_
  refine zs_iconst (pc := 407) (v := 1) dX10_init_407 rfl ?_
  refine zs_callVv (pc := 408) [.int 1] [] (km_plain D h0 m M1 1) kv_plain q1515 zc_X10 zm_recv dX10_init_408 rfl rfl (Nat.le_of_ble_eq_true rfl) (Nat.le_of_ble_eq_true rfl) (fun M2 => ?_)
  refine zs_aload_n (pc := 411) 0 dX10_init_411 rfl rfl ?_
  refine zm_geta (pc := 412) 9 6 (by decide) rfl q1542 dX10_init_412 ?_
  refine zs_iconst (pc := 415) (v := 0) dX10_init_415 rfl ?_
  refine zs_bipush (pc := 416) (v := 104) dX10_init_416 (by decide) ?_
  refine zs_bipush (pc := 418) (v := 111) dX10_init_418 (by decide) ?_
  refine zs_bipush (pc := 420) (v := 117) dX10_init_420 (by decide) ?_
  refine zs_bipush (pc := 422) (v := 115) dX10_init_422 (by decide) ?_
  refine zs_bipush (pc := 424) (v := 101) dX10_init_424 (by decide) ?_
  refine zs_iconst (pc := 426) (v := 0) dX10_init_426 rfl ?_
  refine zs_iconst (pc := 427) (v := 0) dX10_init_427 rfl ?_
  refine zs_callSrL (pc := 428) [.int 104, .int 111, .int 117, .int 115, .int 101, .int 0, .int 0] [.int 0, .ref (m + (6 + 1))] (km_letters D _ _ M2 104 111 117 115 101 0 0) kv_letters q1519 dX10_init_428 rfl rfl (Nat.le_of_ble_eq_true rfl) (Nat.le_of_ble_eq_true rfl) (fun l3 => ?_)
  refine zm_last (pc := 431) 9 6 zm_p9 dX10_init_431 (fun M4 => ?_)
  refine zs_aload_n (pc := 432) 0 dX10_init_432 rfl rfl ?_
  refine zm_geta (pc := 433) 9 6 (by decide) rfl q1542 dX10_init_433 ?_
  refine zs_iconst (pc := 436) (v := 1) dX10_init_436 rfl ?_
  refine zs_bipush (pc := 437) (v := 108) dX10_init_437 (by decide) ?_
  refine zs_bipush (pc := 439) (v := 105) dX10_init_439 (by decide) ?_
  refine zs_bipush (pc := 441) (v := 107) dX10_init_441 (by decide) ?_
  refine zs_bipush (pc := 443) (v := 101) dX10_init_443 (by decide) ?_
  refine zs_bipush (pc := 445) (v := 115) dX10_init_445 (by decide) ?_
  refine zs_iconst (pc := 447) (v := 0) dX10_init_447 rfl ?_
  refine zs_iconst (pc := 448) (v := 0) dX10_init_448 rfl ?_
  refine zs_callSrL (pc := 449) [.int 108, .int 105, .int 107, .int 101, .int 115, .int 0, .int 0] [.int 1, .ref (m + (6 + 1))] (km_letters D _ _ M4 108 105 107 101 115 0 0) kv_letters q1519 dX10_init_449 rfl rfl (Nat.le_of_ble_eq_true rfl) (Nat.le_of_ble_eq_true rfl) (fun l5 => ?_)
  refine zm_last (pc := 452) 9 6 zm_p9 dX10_init_452 (fun M6 => ?_)
  refine zs_aload_n (pc := 453) 0 dX10_init_453 rfl rfl ?_
  refine zm_geta (pc := 454) 9 6 (by decide) rfl q1542 dX10_init_454 ?_
  refine zs_iconst (pc := 457) (v := 2) dX10_init_457 rfl ?_
  refine zs_bipush (pc := 458) (v := 119) dX10_init_458 (by decide) ?_
  refine zs_bipush (pc := 460) (v := 101) dX10_init_460 (by decide) ?_
  refine zs_bipush (pc := 462) (v := 108) dX10_init_462 (by decide) ?_
  refine zs_bipush (pc := 464) (v := 108) dX10_init_464 (by decide) ?_
  refine zs_iconst (pc := 466) (v := 0) dX10_init_466 rfl ?_
  refine zs_iconst (pc := 467) (v := 0) dX10_init_467 rfl ?_
  refine zs_iconst (pc := 468) (v := 0) dX10_init_468 rfl ?_
  refine zs_callSrL (pc := 469) [.int 119, .int 101, .int 108, .int 108, .int 0, .int 0, .int 0] [.int 2, .ref (m + (6 + 1))] (km_letters D _ _ M6 119 101 108 108 0 0 0) kv_letters q1519 dX10_init_469 rfl rfl (Nat.le_of_ble_eq_true rfl) (Nat.le_of_ble_eq_true rfl) (fun l7 => ?_)
  refine zm_last (pc := 472) 9 6 zm_p9 dX10_init_472 (fun M8 => ?_)
  refine zs_aload_n (pc := 473) 0 dX10_init_473 rfl rfl ?_
  refine zm_geta (pc := 474) 9 6 (by decide) rfl q1542 dX10_init_474 ?_
  refine zs_iconst (pc := 477) (v := 3) dX10_init_477 rfl ?_
  refine zs_bipush (pc := 478) (v := 119) dX10_init_478 (by decide) ?_
  refine zs_bipush (pc := 480) (v := 97) dX10_init_480 (by decide) ?_
  refine zs_bipush (pc := 482) (v := 116) dX10_init_482 (by decide) ?_
  refine zs_bipush (pc := 484) (v := 101) dX10_init_484 (by decide) ?_
  refine zs_bipush (pc := 486) (v := 114) dX10_init_486 (by decide) ?_
  refine zs_iconst (pc := 488) (v := 0) dX10_init_488 rfl ?_
  refine zs_iconst (pc := 489) (v := 0) dX10_init_489 rfl ?_
  refine zs_callSrL (pc := 490) [.int 119, .int 97, .int 116, .int 101, .int 114, .int 0, .int 0] [.int 3, .ref (m + (6 + 1))] (km_letters D _ _ M8 119 97 116 101 114 0 0) kv_letters q1519 dX10_init_490 rfl rfl (Nat.le_of_ble_eq_true rfl) (Nat.le_of_ble_eq_true rfl) (fun l9 => ?_)
  refine zm_last (pc := 493) 9 6 zm_p9 dX10_init_493 (fun M10 => ?_)
  refine zs_aload_n (pc := 494) 0 dX10_init_494 rfl rfl ?_
  refine zm_geta (pc := 495) 9 6 (by decide) rfl q1542 dX10_init_495 ?_
  refine zs_iconst (pc := 498) (v := 4) dX10_init_498 rfl ?_
  refine zs_bipush (pc := 499) (v := 103) dX10_init_499 (by decide) ?_
  refine zs_bipush (pc := 501) (v := 114) dX10_init_501 (by decide) ?_
  refine zs_bipush (pc := 503) (v := 111) dX10_init_503 (by decide) ?_
  refine zs_bipush (pc := 505) (v := 119) dX10_init_505 (by decide) ?_
  refine zs_bipush (pc := 507) (v := 115) dX10_init_507 (by decide) ?_
  refine zs_iconst (pc := 509) (v := 0) dX10_init_509 rfl ?_
  refine zs_iconst (pc := 510) (v := 0) dX10_init_510 rfl ?_
  refine zs_callSrL (pc := 511) [.int 103, .int 114, .int 111, .int 119, .int 115, .int 0, .int 0] [.int 4, .ref (m + (6 + 1))] (km_letters D _ _ M10 103 114 111 119 115 0 0) kv_letters q1519 dX10_init_511 rfl rfl (Nat.le_of_ble_eq_true rfl) (Nat.le_of_ble_eq_true rfl) (fun l11 => ?_)
  refine zm_last (pc := 514) 9 6 zm_p9 dX10_init_514 (fun M12 => ?_)
  refine zs_aload_n (pc := 515) 0 dX10_init_515 rfl rfl ?_
  refine zm_geta (pc := 516) 9 6 (by decide) rfl q1542 dX10_init_516 ?_
  refine zs_iconst (pc := 519) (v := 5) dX10_init_519 rfl ?_
  refine zs_bipush (pc := 520) (v := 119) dX10_init_520 (by decide) ?_
  refine zs_bipush (pc := 522) (v := 101) dX10_init_522 (by decide) ?_
  refine zs_bipush (pc := 524) (v := 97) dX10_init_524 (by decide) ?_
  refine zs_bipush (pc := 526) (v := 107) dX10_init_526 (by decide) ?_
  refine zs_bipush (pc := 528) (v := 101) dX10_init_528 (by decide) ?_
  refine zs_bipush (pc := 530) (v := 110) dX10_init_530 (by decide) ?_
  refine zs_bipush (pc := 532) (v := 115) dX10_init_532 (by decide) ?_
  refine zs_callSrL (pc := 534) [.int 119, .int 101, .int 97, .int 107, .int 101, .int 110, .int 115] [.int 5, .ref (m + (6 + 1))] (km_letters D _ _ M12 119 101 97 107 101 110 115) kv_letters q1519 dX10_init_534 rfl rfl (Nat.le_of_ble_eq_true rfl) (Nat.le_of_ble_eq_true rfl) (fun l13 => ?_)
  refine zm_last (pc := 537) 9 6 zm_p9 dX10_init_537 (fun M14 => ?_)
  refine zs_aload_n (pc := 538) 0 dX10_init_538 rfl rfl ?_
  refine zm_geta (pc := 539) 9 6 (by decide) rfl q1542 dX10_init_539 ?_
  refine zs_bipush (pc := 542) (v := 6) dX10_init_542 (by decide) ?_
  refine zs_bipush (pc := 544) (v := 106) dX10_init_544 (by decide) ?_
  refine zs_bipush (pc := 546) (v := 111) dX10_init_546 (by decide) ?_
  refine zs_bipush (pc := 548) (v := 105) dX10_init_548 (by decide) ?_
  refine zs_bipush (pc := 550) (v := 110) dX10_init_550 (by decide) ?_
  refine zs_bipush (pc := 552) (v := 115) dX10_init_552 (by decide) ?_
  refine zs_iconst (pc := 554) (v := 0) dX10_init_554 rfl ?_
  refine zs_iconst (pc := 555) (v := 0) dX10_init_555 rfl ?_
  refine zs_callSrL (pc := 556) [.int 106, .int 111, .int 105, .int 110, .int 115, .int 0, .int 0] [.int 6, .ref (m + (6 + 1))] (km_letters D _ _ M14 106 111 105 110 115 0 0) kv_letters q1519 dX10_init_556 rfl rfl (Nat.le_of_ble_eq_true rfl) (Nat.le_of_ble_eq_true rfl) (fun l15 => ?_)
  refine zm_last (pc := 559) 9 6 zm_p9 dX10_init_559 (fun M16 => ?_)
  refine zs_aload_n (pc := 560) 0 dX10_init_560 rfl rfl ?_
  refine zm_geta (pc := 561) 9 6 (by decide) rfl q1542 dX10_init_561 ?_
  refine zs_bipush (pc := 564) (v := 7) dX10_init_564 (by decide) ?_
  refine zs_bipush (pc := 566) (v := 99) dX10_init_566 (by decide) ?_
  refine zs_bipush (pc := 568) (v := 111) dX10_init_568 (by decide) ?_
  refine zs_bipush (pc := 570) (v := 115) dX10_init_570 (by decide) ?_
  refine zs_bipush (pc := 572) (v := 116) dX10_init_572 (by decide) ?_
  refine zs_bipush (pc := 574) (v := 115) dX10_init_574 (by decide) ?_
  refine zs_iconst (pc := 576) (v := 0) dX10_init_576 rfl ?_
  refine zs_iconst (pc := 577) (v := 0) dX10_init_577 rfl ?_
  refine zs_callSrL (pc := 578) [.int 99, .int 111, .int 115, .int 116, .int 115, .int 0, .int 0] [.int 7, .ref (m + (6 + 1))] (km_letters D _ _ M16 99 111 115 116 115 0 0) kv_letters q1519 dX10_init_578 rfl rfl (Nat.le_of_ble_eq_true rfl) (Nat.le_of_ble_eq_true rfl) (fun l17 => ?_)
  refine zm_last (pc := 581) 9 6 zm_p9 dX10_init_581 (fun M18 => ?_)
  refine zs_aload_n (pc := 582) 0 dX10_init_582 rfl rfl ?_
  refine zm_geta (pc := 583) 9 6 (by decide) rfl q1542 dX10_init_583 ?_
  refine zs_bipush (pc := 586) (v := 8) dX10_init_586 (by decide) ?_
  refine zs_bipush (pc := 588) (v := 98) dX10_init_588 (by decide) ?_
  refine zs_bipush (pc := 590) (v := 108) dX10_init_590 (by decide) ?_
  refine zs_bipush (pc := 592) (v := 105) dX10_init_592 (by decide) ?_
  refine zs_bipush (pc := 594) (v := 103) dX10_init_594 (by decide) ?_
  refine zs_bipush (pc := 596) (v := 104) dX10_init_596 (by decide) ?_
  refine zs_bipush (pc := 598) (v := 116) dX10_init_598 (by decide) ?_
  refine zs_iconst (pc := 600) (v := 0) dX10_init_600 rfl ?_
  refine zs_callSrL (pc := 601) [.int 98, .int 108, .int 105, .int 103, .int 104, .int 116, .int 0] [.int 8, .ref (m + (6 + 1))] (km_letters D _ _ M18 98 108 105 103 104 116 0) kv_letters q1519 dX10_init_601 rfl rfl (Nat.le_of_ble_eq_true rfl) (Nat.le_of_ble_eq_true rfl) (fun l19 => ?_)
  refine zm_last (pc := 604) 9 6 zm_p9 dX10_init_604 (fun M20 => ?_)
  refine zs_aload_n (pc := 605) 0 dX10_init_605 rfl rfl ?_
  refine zm_geta (pc := 606) 9 6 (by decide) rfl q1542 dX10_init_606 ?_
  refine zs_bipush (pc := 609) (v := 9) dX10_init_609 (by decide) ?_
  refine zs_bipush (pc := 611) (v := 115) dX10_init_611 (by decide) ?_
  refine zs_bipush (pc := 613) (v := 101) dX10_init_613 (by decide) ?_
  refine zs_bipush (pc := 615) (v := 101) dX10_init_615 (by decide) ?_
  refine zs_bipush (pc := 617) (v := 100) dX10_init_617 (by decide) ?_
  refine zs_iconst (pc := 619) (v := 0) dX10_init_619 rfl ?_
  refine zs_iconst (pc := 620) (v := 0) dX10_init_620 rfl ?_
  refine zs_iconst (pc := 621) (v := 0) dX10_init_621 rfl ?_
  refine zs_callSrL (pc := 622) [.int 115, .int 101, .int 101, .int 100, .int 0, .int 0, .int 0] [.int 9, .ref (m + (6 + 1))] (km_letters D _ _ M20 115 101 101 100 0 0 0) kv_letters q1519 dX10_init_622 rfl rfl (Nat.le_of_ble_eq_true rfl) (Nat.le_of_ble_eq_true rfl) (fun l21 => ?_)
  refine zm_last (pc := 625) 9 6 zm_p9 dX10_init_625 (fun M22 => ?_)
  refine zs_aload_n (pc := 626) 0 dX10_init_626 rfl rfl ?_
  refine zm_geta (pc := 627) 9 6 (by decide) rfl q1542 dX10_init_627 ?_
  refine zs_bipush (pc := 630) (v := 10) dX10_init_630 (by decide) ?_
  refine zs_bipush (pc := 632) (v := 105) dX10_init_632 (by decide) ?_
  refine zs_bipush (pc := 634) (v := 102) dX10_init_634 (by decide) ?_
  refine zs_iconst (pc := 636) (v := 0) dX10_init_636 rfl ?_
  refine zs_iconst (pc := 637) (v := 0) dX10_init_637 rfl ?_
  refine zs_iconst (pc := 638) (v := 0) dX10_init_638 rfl ?_
  refine zs_iconst (pc := 639) (v := 0) dX10_init_639 rfl ?_
  refine zs_iconst (pc := 640) (v := 0) dX10_init_640 rfl ?_
  refine zs_callSrL (pc := 641) [.int 105, .int 102, .int 0, .int 0, .int 0, .int 0, .int 0] [.int 10, .ref (m + (6 + 1))] (km_letters D _ _ M22 105 102 0 0 0 0 0) kv_letters q1519 dX10_init_641 rfl rfl (Nat.le_of_ble_eq_true rfl) (Nat.le_of_ble_eq_true rfl) (fun l23 => ?_)
  refine zm_last (pc := 644) 9 6 zm_p9 dX10_init_644 (fun M24 => ?_)
  refine zs_aload_n (pc := 645) 0 dX10_init_645 rfl rfl ?_
  refine zm_geta (pc := 646) 9 6 (by decide) rfl q1542 dX10_init_646 ?_
  refine zs_bipush (pc := 649) (v := 11) dX10_init_649 (by decide) ?_
  refine zs_bipush (pc := 651) (v := 116) dX10_init_651 (by decide) ?_
  refine zs_bipush (pc := 653) (v := 104) dX10_init_653 (by decide) ?_
  refine zs_bipush (pc := 655) (v := 101) dX10_init_655 (by decide) ?_
  refine zs_bipush (pc := 657) (v := 110) dX10_init_657 (by decide) ?_
  refine zs_iconst (pc := 659) (v := 0) dX10_init_659 rfl ?_
  refine zs_iconst (pc := 660) (v := 0) dX10_init_660 rfl ?_
  refine zs_iconst (pc := 661) (v := 0) dX10_init_661 rfl ?_
  refine zs_callSrL (pc := 662) [.int 116, .int 104, .int 101, .int 110, .int 0, .int 0, .int 0] [.int 11, .ref (m + (6 + 1))] (km_letters D _ _ M24 116 104 101 110 0 0 0) kv_letters q1519 dX10_init_662 rfl rfl (Nat.le_of_ble_eq_true rfl) (Nat.le_of_ble_eq_true rfl) (fun l25 => ?_)
  refine zm_last (pc := 665) 9 6 zm_p9 dX10_init_665 (fun M26 => ?_)
  refine zs_aload_n (pc := 666) 0 dX10_init_666 rfl rfl ?_
  refine zm_geta (pc := 667) 9 6 (by decide) rfl q1542 dX10_init_667 ?_
  refine zs_bipush (pc := 670) (v := 12) dX10_init_670 (by decide) ?_
  refine zs_bipush (pc := 672) (v := 101) dX10_init_672 (by decide) ?_
  refine zs_bipush (pc := 674) (v := 108) dX10_init_674 (by decide) ?_
  refine zs_bipush (pc := 676) (v := 115) dX10_init_676 (by decide) ?_
  refine zs_bipush (pc := 678) (v := 101) dX10_init_678 (by decide) ?_
  refine zs_iconst (pc := 680) (v := 0) dX10_init_680 rfl ?_
  refine zs_iconst (pc := 681) (v := 0) dX10_init_681 rfl ?_
  refine zs_iconst (pc := 682) (v := 0) dX10_init_682 rfl ?_
  refine zs_callSrL (pc := 683) [.int 101, .int 108, .int 115, .int 101, .int 0, .int 0, .int 0] [.int 12, .ref (m + (6 + 1))] (km_letters D _ _ M26 101 108 115 101 0 0 0) kv_letters q1519 dX10_init_683 rfl rfl (Nat.le_of_ble_eq_true rfl) (Nat.le_of_ble_eq_true rfl) (fun l27 => ?_)
  refine zm_last (pc := 686) 9 6 zm_p9 dX10_init_686 (fun M28 => ?_)
  refine zs_aload_n (pc := 687) 0 dX10_init_687 rfl rfl ?_
  refine zm_geta (pc := 688) 9 6 (by decide) rfl q1542 dX10_init_688 ?_
  refine zs_bipush (pc := 691) (v := 13) dX10_init_691 (by decide) ?_
  refine zs_bipush (pc := 693) (v := 104) dX10_init_693 (by decide) ?_
  refine zs_bipush (pc := 695) (v := 97) dX10_init_695 (by decide) ?_
  refine zs_bipush (pc := 697) (v := 105) dX10_init_697 (by decide) ?_
  refine zs_bipush (pc := 699) (v := 114) dX10_init_699 (by decide) ?_
  refine zs_iconst (pc := 701) (v := 0) dX10_init_701 rfl ?_
  refine zs_iconst (pc := 702) (v := 0) dX10_init_702 rfl ?_
  refine zs_iconst (pc := 703) (v := 0) dX10_init_703 rfl ?_
  refine zs_callSrL (pc := 704) [.int 104, .int 97, .int 105, .int 114, .int 0, .int 0, .int 0] [.int 13, .ref (m + (6 + 1))] (km_letters D _ _ M28 104 97 105 114 0 0 0) kv_letters q1519 dX10_init_704 rfl rfl (Nat.le_of_ble_eq_true rfl) (Nat.le_of_ble_eq_true rfl) (fun l29 => ?_)
  refine zm_last (pc := 707) 9 6 zm_p9 dX10_init_707 (fun M30 => ?_)
  refine zs_aload_n (pc := 708) 0 dX10_init_708 rfl rfl ?_
  refine zm_geta (pc := 709) 9 6 (by decide) rfl q1542 dX10_init_709 ?_
  refine zs_bipush (pc := 712) (v := 14) dX10_init_712 (by decide) ?_
  refine zs_bipush (pc := 714) (v := 115) dX10_init_714 (by decide) ?_
  refine zs_bipush (pc := 716) (v := 116) dX10_init_716 (by decide) ?_
  refine zs_bipush (pc := 718) (v := 114) dX10_init_718 (by decide) ?_
  refine zs_bipush (pc := 720) (v := 111) dX10_init_720 (by decide) ?_
  refine zs_bipush (pc := 722) (v := 110) dX10_init_722 (by decide) ?_
  refine zs_bipush (pc := 724) (v := 103) dX10_init_724 (by decide) ?_
  refine zs_iconst (pc := 726) (v := 0) dX10_init_726 rfl ?_
  refine zs_callSrL (pc := 727) [.int 115, .int 116, .int 114, .int 111, .int 110, .int 103, .int 0] [.int 14, .ref (m + (6 + 1))] (km_letters D _ _ M30 115 116 114 111 110 103 0) kv_letters q1519 dX10_init_727 rfl rfl (Nat.le_of_ble_eq_true rfl) (Nat.le_of_ble_eq_true rfl) (fun l31 => ?_)
  refine zm_last (pc := 730) 9 6 zm_p9 dX10_init_730 (fun M32 => ?_)
  refine zs_aload_n (pc := 731) 0 dX10_init_731 rfl rfl ?_
  refine zm_geta (pc := 732) 9 6 (by decide) rfl q1542 dX10_init_732 ?_
  refine zs_bipush (pc := 735) (v := 15) dX10_init_735 (by decide) ?_
  refine zs_bipush (pc := 737) (v := 108) dX10_init_737 (by decide) ?_
  refine zs_bipush (pc := 739) (v := 105) dX10_init_739 (by decide) ?_
  refine zs_bipush (pc := 741) (v := 107) dX10_init_741 (by decide) ?_
  refine zs_bipush (pc := 743) (v := 101) dX10_init_743 (by decide) ?_
  refine zs_iconst (pc := 745) (v := 0) dX10_init_745 rfl ?_
  refine zs_iconst (pc := 746) (v := 0) dX10_init_746 rfl ?_
  refine zs_iconst (pc := 747) (v := 0) dX10_init_747 rfl ?_
  refine zs_callSrL (pc := 748) [.int 108, .int 105, .int 107, .int 101, .int 0, .int 0, .int 0] [.int 15, .ref (m + (6 + 1))] (km_letters D _ _ M32 108 105 107 101 0 0 0) kv_letters q1519 dX10_init_748 rfl rfl (Nat.le_of_ble_eq_true rfl) (Nat.le_of_ble_eq_true rfl) (fun l33 => ?_)
  refine zm_last (pc := 751) 9 6 zm_p9 dX10_init_751 (fun M34 => ?_)
  refine zs_aload_n (pc := 752) 0 dX10_init_752 rfl rfl ?_
  refine zm_geta (pc := 753) 9 6 (by decide) rfl q1542 dX10_init_753 ?_
  refine zs_bipush (pc := 756) (v := 16) dX10_init_756 (by decide) ?_
  refine zs_bipush (pc := 758) (v := 121) dX10_init_758 (by decide) ?_
  refine zs_bipush (pc := 760) (v := 101) dX10_init_760 (by decide) ?_
  refine zs_bipush (pc := 762) (v := 97) dX10_init_762 (by decide) ?_
  refine zs_bipush (pc := 764) (v := 114) dX10_init_764 (by decide) ?_
  refine zs_iconst (pc := 766) (v := 0) dX10_init_766 rfl ?_
  refine zs_iconst (pc := 767) (v := 0) dX10_init_767 rfl ?_
  refine zs_iconst (pc := 768) (v := 0) dX10_init_768 rfl ?_
  refine zs_callSrL (pc := 769) [.int 121, .int 101, .int 97, .int 114, .int 0, .int 0, .int 0] [.int 16, .ref (m + (6 + 1))] (km_letters D _ _ M34 121 101 97 114 0 0 0) kv_letters q1519 dX10_init_769 rfl rfl (Nat.le_of_ble_eq_true rfl) (Nat.le_of_ble_eq_true rfl) (fun l35 => ?_)
  refine zm_last (pc := 772) 9 6 zm_p9 dX10_init_772 (fun M36 => ?_)
  refine zs_aload_n (pc := 773) 0 dX10_init_773 rfl rfl ?_
  refine zm_geta (pc := 774) 9 6 (by decide) rfl q1542 dX10_init_774 ?_
  refine zs_bipush (pc := 777) (v := 17) dX10_init_777 (by decide) ?_
  refine zs_bipush (pc := 779) (v := 112) dX10_init_779 (by decide) ?_
  refine zs_bipush (pc := 781) (v := 108) dX10_init_781 (by decide) ?_
  refine zs_bipush (pc := 783) (v := 97) dX10_init_783 (by decide) ?_
  refine zs_bipush (pc := 785) (v := 99) dX10_init_785 (by decide) ?_
  refine zs_bipush (pc := 787) (v := 101) dX10_init_787 (by decide) ?_
  refine zs_iconst (pc := 789) (v := 0) dX10_init_789 rfl ?_
  refine zs_iconst (pc := 790) (v := 0) dX10_init_790 rfl ?_
  refine zs_callSrL (pc := 791) [.int 112, .int 108, .int 97, .int 99, .int 101, .int 0, .int 0] [.int 17, .ref (m + (6 + 1))] (km_letters D _ _ M36 112 108 97 99 101 0 0) kv_letters q1519 dX10_init_791 rfl rfl (Nat.le_of_ble_eq_true rfl) (Nat.le_of_ble_eq_true rfl) (fun l37 => ?_)
  refine zm_last (pc := 794) 9 6 zm_p9 dX10_init_794 (fun M38 => ?_)
  refine zs_aload_n (pc := 795) 0 dX10_init_795 rfl rfl ?_
  refine zm_geta (pc := 796) 9 6 (by decide) rfl q1542 dX10_init_796 ?_
  refine zs_bipush (pc := 799) (v := 18) dX10_init_799 (by decide) ?_
  refine zs_bipush (pc := 801) (v := 119) dX10_init_801 (by decide) ?_
  refine zs_bipush (pc := 803) (v := 104) dX10_init_803 (by decide) ?_
  refine zs_bipush (pc := 805) (v := 105) dX10_init_805 (by decide) ?_
  refine zs_bipush (pc := 807) (v := 99) dX10_init_807 (by decide) ?_
  refine zs_bipush (pc := 809) (v := 104) dX10_init_809 (by decide) ?_
  refine zs_iconst (pc := 811) (v := 0) dX10_init_811 rfl ?_
  refine zs_iconst (pc := 812) (v := 0) dX10_init_812 rfl ?_
  refine zs_callSrL (pc := 813) [.int 119, .int 104, .int 105, .int 99, .int 104, .int 0, .int 0] [.int 18, .ref (m + (6 + 1))] (km_letters D _ _ M38 119 104 105 99 104 0 0) kv_letters q1519 dX10_init_813 rfl rfl (Nat.le_of_ble_eq_true rfl) (Nat.le_of_ble_eq_true rfl) (fun l39 => ?_)
  refine zm_last (pc := 816) 9 6 zm_p9 dX10_init_816 (fun M40 => ?_)
  refine zs_aload_n (pc := 817) 0 dX10_init_817 rfl rfl ?_
  refine zm_geta (pc := 818) 9 6 (by decide) rfl q1542 dX10_init_818 ?_
  refine zs_bipush (pc := 821) (v := 19) dX10_init_821 (by decide) ?_
  refine zs_bipush (pc := 823) (v := 115) dX10_init_823 (by decide) ?_
  refine zs_bipush (pc := 825) (v := 112) dX10_init_825 (by decide) ?_
  refine zs_bipush (pc := 827) (v := 108) dX10_init_827 (by decide) ?_
  refine zs_bipush (pc := 829) (v := 105) dX10_init_829 (by decide) ?_
  refine zs_bipush (pc := 831) (v := 99) dX10_init_831 (by decide) ?_
  refine zs_bipush (pc := 833) (v := 101) dX10_init_833 (by decide) ?_
  refine zs_bipush (pc := 835) (v := 100) dX10_init_835 (by decide) ?_
  refine zs_callSrL (pc := 837) [.int 115, .int 112, .int 108, .int 105, .int 99, .int 101, .int 100] [.int 19, .ref (m + (6 + 1))] (km_letters D _ _ M40 115 112 108 105 99 101 100) kv_letters q1519 dX10_init_837 rfl rfl (Nat.le_of_ble_eq_true rfl) (Nat.le_of_ble_eq_true rfl) (fun l41 => ?_)
  refine zm_last (pc := 840) 9 6 zm_p9 dX10_init_840 (fun M42 => ?_)
  refine zs_aload_n (pc := 841) 0 dX10_init_841 rfl rfl ?_
  refine zm_geta (pc := 842) 9 6 (by decide) rfl q1542 dX10_init_842 ?_
  refine zs_bipush (pc := 845) (v := 20) dX10_init_845 (by decide) ?_
  refine zs_bipush (pc := 847) (v := 103) dX10_init_847 (by decide) ?_
  refine zs_bipush (pc := 849) (v := 105) dX10_init_849 (by decide) ?_
  refine zs_bipush (pc := 851) (v := 118) dX10_init_851 (by decide) ?_
  refine zs_bipush (pc := 853) (v := 101) dX10_init_853 (by decide) ?_
  refine zs_bipush (pc := 855) (v := 110) dX10_init_855 (by decide) ?_
  refine zs_iconst (pc := 857) (v := 0) dX10_init_857 rfl ?_
  refine zs_iconst (pc := 858) (v := 0) dX10_init_858 rfl ?_
  refine zs_callSrL (pc := 859) [.int 103, .int 105, .int 118, .int 101, .int 110, .int 0, .int 0] [.int 20, .ref (m + (6 + 1))] (km_letters D _ _ M42 103 105 118 101 110 0 0) kv_letters q1519 dX10_init_859 rfl rfl (Nat.le_of_ble_eq_true rfl) (Nat.le_of_ble_eq_true rfl) (fun l43 => ?_)
  refine zm_last (pc := 862) 9 6 zm_p9 dX10_init_862 (fun M44 => ?_)
  refine zs_aload_n (pc := 863) 0 dX10_init_863 rfl rfl ?_
  refine zm_geta (pc := 864) 9 6 (by decide) rfl q1542 dX10_init_864 ?_
  refine zs_bipush (pc := 867) (v := 21) dX10_init_867 (by decide) ?_
  refine zs_bipush (pc := 869) (v := 111) dX10_init_869 (by decide) ?_
  refine zs_bipush (pc := 871) (v := 116) dX10_init_871 (by decide) ?_
  refine zs_bipush (pc := 873) (v := 104) dX10_init_873 (by decide) ?_
  refine zs_bipush (pc := 875) (v := 101) dX10_init_875 (by decide) ?_
  refine zs_bipush (pc := 877) (v := 114) dX10_init_877 (by decide) ?_
  refine zs_iconst (pc := 879) (v := 0) dX10_init_879 rfl ?_
  refine zs_iconst (pc := 880) (v := 0) dX10_init_880 rfl ?_
  refine zs_callSrL (pc := 881) [.int 111, .int 116, .int 104, .int 101, .int 114, .int 0, .int 0] [.int 21, .ref (m + (6 + 1))] (km_letters D _ _ M44 111 116 104 101 114 0 0) kv_letters q1519 dX10_init_881 rfl rfl (Nat.le_of_ble_eq_true rfl) (Nat.le_of_ble_eq_true rfl) (fun l45 => ?_)
  refine zm_last (pc := 884) 9 6 zm_p9 dX10_init_884 (fun M46 => ?_)
  refine zs_aload_n (pc := 885) 0 dX10_init_885 rfl rfl ?_
  refine zs_callVv (pc := 886) [] [] (km_begins D h0 m M46) kv_begins q1526 zc_X10 zm_recv dX10_init_886 rfl rfl (Nat.le_of_ble_eq_true rfl) (Nat.le_of_ble_eq_true rfl) (fun M47 => ?_)
  refine zs_aload_n (pc := 889) 0 dX10_init_889 rfl rfl ?_
  refine zs_callVv (pc := 890) [] [] (km_keepsRow D h0 m M47) kv_keepsRow q1530 zc_X10 zm_recv dX10_init_890 rfl rfl (Nat.le_of_ble_eq_true rfl) (Nat.le_of_ble_eq_true rfl) (fun M48 => ?_)
  exact zs_vret (pc := 893) dX10_init_893 rfl rfl
