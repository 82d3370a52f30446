set_option maxRecDepth 100000
theorem dL_law_533 : decode cL_law 533 = .ok (.iaload, 1) := by decide +kernel
theorem dL_law_534 : decode cL_law 534 = .ok (.aload_n 0, 1) := by decide +kernel
theorem dL_law_535 : decode cL_law 535 = .ok (.iload_n 3, 1) := by decide +kernel
theorem dL_law_536 : decode cL_law 536 = .ok (.iconst 5, 1) := by decide +kernel
theorem dL_law_537 : decode cL_law 537 = .ok (.iadd, 1) := by decide +kernel
theorem dL_law_538 : decode cL_law 538 = .ok (.iaload, 1) := by decide +kernel
theorem dL_law_539 : decode cL_law 539 = .ok (.invokevirtual 60, 3) := by decide +kernel
theorem dL_law_542 : decode cL_law 542 = .ok (.aload_n 2, 1) := by decide +kernel
theorem dL_law_543 : decode cL_law 543 = .ok (.aload_n 0, 1) := by decide +kernel
theorem dL_law_544 : decode cL_law 544 = .ok (.iload_n 3, 1) := by decide +kernel
theorem dL_law_545 : decode cL_law 545 = .ok (.iconst 1, 1) := by decide +kernel
theorem dL_law_546 : decode cL_law 546 = .ok (.iadd, 1) := by decide +kernel
theorem dL_law_547 : decode cL_law 547 = .ok (.iaload, 1) := by decide +kernel
theorem dL_law_548 : decode cL_law 548 = .ok (.aload_n 0, 1) := by decide +kernel
theorem dL_law_549 : decode cL_law 549 = .ok (.iload_n 3, 1) := by decide +kernel
theorem dL_law_550 : decode cL_law 550 = .ok (.iconst 2, 1) := by decide +kernel
theorem dL_law_551 : decode cL_law 551 = .ok (.iadd, 1) := by decide +kernel
theorem dL_law_552 : decode cL_law 552 = .ok (.iaload, 1) := by decide +kernel
theorem dL_law_553 : decode cL_law 553 = .ok (.aload_n 0, 1) := by decide +kernel
theorem dL_law_554 : decode cL_law 554 = .ok (.iload_n 3, 1) := by decide +kernel
theorem dL_law_555 : decode cL_law 555 = .ok (.iconst 3, 1) := by decide +kernel
theorem dL_law_556 : decode cL_law 556 = .ok (.iadd, 1) := by decide +kernel
theorem dL_law_557 : decode cL_law 557 = .ok (.iaload, 1) := by decide +kernel
theorem dL_law_558 : decode cL_law 558 = .ok (.aload_n 0, 1) := by decide +kernel
theorem dL_law_559 : decode cL_law 559 = .ok (.iload_n 3, 1) := by decide +kernel
theorem dL_law_560 : decode cL_law 560 = .ok (.iconst 4, 1) := by decide +kernel
theorem dL_law_561 : decode cL_law 561 = .ok (.iadd, 1) := by decide +kernel
theorem dL_law_562 : decode cL_law 562 = .ok (.iaload, 1) := by decide +kernel
theorem dL_law_563 : decode cL_law 563 = .ok (.aload_n 0, 1) := by decide +kernel
theorem dL_law_564 : decode cL_law 564 = .ok (.iload_n 3, 1) := by decide +kernel
theorem dL_law_565 : decode cL_law 565 = .ok (.iconst 5, 1) := by decide +kernel
theorem dL_law_566 : decode cL_law 566 = .ok (.iadd, 1) := by decide +kernel
theorem dL_law_567 : decode cL_law 567 = .ok (.iaload, 1) := by decide +kernel
theorem dL_law_568 : decode cL_law 568 = .ok (.invokevirtual 64, 3) := by decide +kernel
theorem dL_law_571 : decode cL_law 571 = .ok (.if_icmp .eq 352, 3) := by decide +kernel
theorem dL_law_574 : decode cL_law 574 = .ok (.iconst 0, 1) := by decide +kernel
theorem dL_law_575 : decode cL_law 575 = .ok (.ireturn, 1) := by decide +kernel
theorem dL_law_576 : decode cL_law 576 = .ok (.aload_n 1, 1) := by decide +kernel
theorem dL_law_577 : decode cL_law 577 = .ok (.aload_n 0, 1) := by decide +kernel
theorem dL_law_578 : decode cL_law 578 = .ok (.iload_n 3, 1) := by decide +kernel
theorem dL_law_579 : decode cL_law 579 = .ok (.iconst 1, 1) := by decide +kernel
theorem dL_law_580 : decode cL_law 580 = .ok (.iadd, 1) := by decide +kernel
theorem dL_law_581 : decode cL_law 581 = .ok (.iaload, 1) := by decide +kernel
theorem dL_law_582 : decode cL_law 582 = .ok (.invokevirtual 65, 3) := by decide +kernel
theorem dL_law_585 : decode cL_law 585 = .ok (.aload_n 2, 1) := by decide +kernel
theorem dL_law_586 : decode cL_law 586 = .ok (.aload_n 0, 1) := by decide +kernel
theorem dL_law_587 : decode cL_law 587 = .ok (.iload_n 3, 1) := by decide +kernel
theorem dL_law_588 : decode cL_law 588 = .ok (.iconst 1, 1) := by decide +kernel
theorem dL_law_589 : decode cL_law 589 = .ok (.iadd, 1) := by decide +kernel
theorem dL_law_590 : decode cL_law 590 = .ok (.iaload, 1) := by decide +kernel
theorem dL_law_591 : decode cL_law 591 = .ok (.invokevirtual 68, 3) := by decide +kernel
theorem dL_law_594 : decode cL_law 594 = .ok (.if_icmp .eq 329, 3) := by decide +kernel
theorem dL_law_597 : decode cL_law 597 = .ok (.iconst 0, 1) := by decide +kernel
theorem dL_law_598 : decode cL_law 598 = .ok (.ireturn, 1) := by decide +kernel
theorem dL_law_599 : decode cL_law 599 = .ok (.aload_n 1, 1) := by decide +kernel
theorem dL_law_600 : decode cL_law 600 = .ok (.invokevirtual 69, 3) := by decide +kernel
theorem dL_law_603 : decode cL_law 603 = .ok (.aload_n 2, 1) := by decide +kernel
theorem dL_law_604 : decode cL_law 604 = .ok (.invokevirtual 73, 3) := by decide +kernel
theorem dL_law_607 : decode cL_law 607 = .ok (.if_icmp .eq 316, 3) := by decide +kernel
theorem dL_law_610 : decode cL_law 610 = .ok (.iconst 0, 1) := by decide +kernel
theorem dL_law_611 : decode cL_law 611 = .ok (.ireturn, 1) := by decide +kernel
theorem dL_law_612 : decode cL_law 612 = .ok (.aload_n 1, 1) := by decide +kernel
theorem dL_law_613 : decode cL_law 613 = .ok (.aload_n 0, 1) := by decide +kernel
theorem dL_law_614 : decode cL_law 614 = .ok (.iload_n 3, 1) := by decide +kernel
theorem dL_law_615 : decode cL_law 615 = .ok (.iconst 1, 1) := by decide +kernel
theorem dL_law_616 : decode cL_law 616 = .ok (.iadd, 1) := by decide +kernel
theorem dL_law_617 : decode cL_law 617 = .ok (.iaload, 1) := by decide +kernel
theorem dL_law_618 : decode cL_law 618 = .ok (.invokevirtual 74, 3) := by decide +kernel
theorem dL_law_621 : decode cL_law 621 = .ok (.aload_n 2, 1) := by decide +kernel
theorem dL_law_622 : decode cL_law 622 = .ok (.aload_n 0, 1) := by decide +kernel
theorem dL_law_623 : decode cL_law 623 = .ok (.iload_n 3, 1) := by decide +kernel
theorem dL_law_624 : decode cL_law 624 = .ok (.iconst 1, 1) := by decide +kernel
theorem dL_law_625 : decode cL_law 625 = .ok (.iadd, 1) := by decide +kernel
theorem dL_law_626 : decode cL_law 626 = .ok (.iaload, 1) := by decide +kernel
theorem dL_law_627 : decode cL_law 627 = .ok (.invokevirtual 77, 3) := by decide +kernel
theorem dL_law_630 : decode cL_law 630 = .ok (.if_icmp .eq 293, 3) := by decide +kernel
theorem dL_law_633 : decode cL_law 633 = .ok (.iconst 0, 1) := by decide +kernel
theorem dL_law_634 : decode cL_law 634 = .ok (.ireturn, 1) := by decide +kernel
theorem dL_law_635 : decode cL_law 635 = .ok (.aload_n 1, 1) := by decide +kernel
theorem dL_law_636 : decode cL_law 636 = .ok (.aload_n 0, 1) := by decide +kernel
theorem dL_law_637 : decode cL_law 637 = .ok (.iload_n 3, 1) := by decide +kernel
theorem dL_law_638 : decode cL_law 638 = .ok (.iconst 1, 1) := by decide +kernel
theorem dL_law_639 : decode cL_law 639 = .ok (.iadd, 1) := by decide +kernel
theorem dL_law_640 : decode cL_law 640 = .ok (.iaload, 1) := by decide +kernel
theorem dL_law_641 : decode cL_law 641 = .ok (.invokevirtual 78, 3) := by decide +kernel
theorem dL_law_644 : decode cL_law 644 = .ok (.aload_n 2, 1) := by decide +kernel
theorem dL_law_645 : decode cL_law 645 = .ok (.aload_n 0, 1) := by decide +kernel
theorem dL_law_646 : decode cL_law 646 = .ok (.iload_n 3, 1) := by decide +kernel
theorem dL_law_647 : decode cL_law 647 = .ok (.iconst 1, 1) := by decide +kernel
theorem dL_law_648 : decode cL_law 648 = .ok (.iadd, 1) := by decide +kernel
theorem dL_law_649 : decode cL_law 649 = .ok (.iaload, 1) := by decide +kernel
theorem dL_law_650 : decode cL_law 650 = .ok (.invokevirtual 81, 3) := by decide +kernel
theorem dL_law_653 : decode cL_law 653 = .ok (.if_icmp .eq 270, 3) := by decide +kernel
theorem dL_law_656 : decode cL_law 656 = .ok (.iconst 0, 1) := by decide +kernel
theorem dL_law_657 : decode cL_law 657 = .ok (.ireturn, 1) := by decide +kernel
theorem dL_law_658 : decode cL_law 658 = .ok (.aload_n 1, 1) := by decide +kernel
theorem dL_law_659 : decode cL_law 659 = .ok (.aload_n 0, 1) := by decide +kernel
theorem dL_law_660 : decode cL_law 660 = .ok (.iload_n 3, 1) := by decide +kernel
theorem dL_law_661 : decode cL_law 661 = .ok (.iconst 1, 1) := by decide +kernel
theorem dL_law_662 : decode cL_law 662 = .ok (.iadd, 1) := by decide +kernel
theorem dL_law_663 : decode cL_law 663 = .ok (.iaload, 1) := by decide +kernel
theorem dL_law_664 : decode cL_law 664 = .ok (.aload_n 0, 1) := by decide +kernel
theorem dL_law_665 : decode cL_law 665 = .ok (.iload_n 3, 1) := by decide +kernel
theorem dL_law_666 : decode cL_law 666 = .ok (.iconst 2, 1) := by decide +kernel
theorem dL_law_667 : decode cL_law 667 = .ok (.iadd, 1) := by decide +kernel
theorem dL_law_668 : decode cL_law 668 = .ok (.iaload, 1) := by decide +kernel
theorem dL_law_669 : decode cL_law 669 = .ok (.invokevirtual 82, 3) := by decide +kernel
theorem dL_law_672 : decode cL_law 672 = .ok (.aload_n 2, 1) := by decide +kernel
theorem dL_law_673 : decode cL_law 673 = .ok (.aload_n 0, 1) := by decide +kernel
theorem dL_law_674 : decode cL_law 674 = .ok (.iload_n 3, 1) := by decide +kernel
theorem dL_law_675 : decode cL_law 675 = .ok (.iconst 1, 1) := by decide +kernel
theorem dL_law_676 : decode cL_law 676 = .ok (.iadd, 1) := by decide +kernel
theorem dL_law_677 : decode cL_law 677 = .ok (.iaload, 1) := by decide +kernel
theorem dL_law_678 : decode cL_law 678 = .ok (.aload_n 0, 1) := by decide +kernel
theorem dL_law_679 : decode cL_law 679 = .ok (.iload_n 3, 1) := by decide +kernel
theorem dL_law_680 : decode cL_law 680 = .ok (.iconst 2, 1) := by decide +kernel
theorem dL_law_681 : decode cL_law 681 = .ok (.iadd, 1) := by decide +kernel
theorem dL_law_682 : decode cL_law 682 = .ok (.iaload, 1) := by decide +kernel
theorem dL_law_683 : decode cL_law 683 = .ok (.invokevirtual 85, 3) := by decide +kernel
theorem dL_law_686 : decode cL_law 686 = .ok (.if_icmp .eq 237, 3) := by decide +kernel
theorem dL_law_689 : decode cL_law 689 = .ok (.iconst 0, 1) := by decide +kernel
theorem dL_law_690 : decode cL_law 690 = .ok (.ireturn, 1) := by decide +kernel
theorem dL_law_691 : decode cL_law 691 = .ok (.aload_n 1, 1) := by decide +kernel
theorem dL_law_692 : decode cL_law 692 = .ok (.aload_n 0, 1) := by decide +kernel
theorem dL_law_693 : decode cL_law 693 = .ok (.iload_n 3, 1) := by decide +kernel
theorem dL_law_694 : decode cL_law 694 = .ok (.iconst 1, 1) := by decide +kernel
theorem dL_law_695 : decode cL_law 695 = .ok (.iadd, 1) := by decide +kernel
theorem dL_law_696 : decode cL_law 696 = .ok (.iaload, 1) := by decide +kernel
theorem dL_law_697 : decode cL_law 697 = .ok (.aload_n 0, 1) := by decide +kernel
theorem dL_law_698 : decode cL_law 698 = .ok (.iload_n 3, 1) := by decide +kernel
theorem dL_law_699 : decode cL_law 699 = .ok (.iconst 2, 1) := by decide +kernel
theorem dL_law_700 : decode cL_law 700 = .ok (.iadd, 1) := by decide +kernel
theorem dL_law_701 : decode cL_law 701 = .ok (.iaload, 1) := by decide +kernel
theorem dL_law_702 : decode cL_law 702 = .ok (.invokevirtual 86, 3) := by decide +kernel
theorem dL_law_705 : decode cL_law 705 = .ok (.aload_n 2, 1) := by decide +kernel
theorem dL_law_706 : decode cL_law 706 = .ok (.aload_n 0, 1) := by decide +kernel
theorem dL_law_707 : decode cL_law 707 = .ok (.iload_n 3, 1) := by decide +kernel
theorem dL_law_708 : decode cL_law 708 = .ok (.iconst 1, 1) := by decide +kernel
theorem dL_law_709 : decode cL_law 709 = .ok (.iadd, 1) := by decide +kernel
theorem dL_law_710 : decode cL_law 710 = .ok (.iaload, 1) := by decide +kernel
theorem dL_law_711 : decode cL_law 711 = .ok (.aload_n 0, 1) := by decide +kernel
theorem dL_law_712 : decode cL_law 712 = .ok (.iload_n 3, 1) := by decide +kernel
theorem dL_law_713 : decode cL_law 713 = .ok (.iconst 2, 1) := by decide +kernel
theorem dL_law_714 : decode cL_law 714 = .ok (.iadd, 1) := by decide +kernel
theorem dL_law_715 : decode cL_law 715 = .ok (.iaload, 1) := by decide +kernel
theorem dL_law_716 : decode cL_law 716 = .ok (.invokevirtual 89, 3) := by decide +kernel
theorem dL_law_719 : decode cL_law 719 = .ok (.if_icmp .eq 204, 3) := by decide +kernel
theorem dL_law_722 : decode cL_law 722 = .ok (.iconst 0, 1) := by decide +kernel
theorem dL_law_723 : decode cL_law 723 = .ok (.ireturn, 1) := by decide +kernel
theorem dL_law_724 : decode cL_law 724 = .ok (.aload_n 1, 1) := by decide +kernel
theorem dL_law_725 : decode cL_law 725 = .ok (.aload_n 0, 1) := by decide +kernel
theorem dL_law_726 : decode cL_law 726 = .ok (.iload_n 3, 1) := by decide +kernel
theorem dL_law_727 : decode cL_law 727 = .ok (.iconst 1, 1) := by decide +kernel
theorem dL_law_728 : decode cL_law 728 = .ok (.iadd, 1) := by decide +kernel
theorem dL_law_729 : decode cL_law 729 = .ok (.iaload, 1) := by decide +kernel
theorem dL_law_730 : decode cL_law 730 = .ok (.aload_n 0, 1) := by decide +kernel
theorem dL_law_731 : decode cL_law 731 = .ok (.iload_n 3, 1) := by decide +kernel
theorem dL_law_732 : decode cL_law 732 = .ok (.iconst 2, 1) := by decide +kernel
theorem dL_law_733 : decode cL_law 733 = .ok (.iadd, 1) := by decide +kernel
theorem dL_law_734 : decode cL_law 734 = .ok (.iaload, 1) := by decide +kernel
theorem dL_law_735 : decode cL_law 735 = .ok (.aload_n 0, 1) := by decide +kernel
theorem dL_law_736 : decode cL_law 736 = .ok (.iload_n 3, 1) := by decide +kernel
theorem dL_law_737 : decode cL_law 737 = .ok (.iconst 3, 1) := by decide +kernel
theorem dL_law_738 : decode cL_law 738 = .ok (.iadd, 1) := by decide +kernel
theorem dL_law_739 : decode cL_law 739 = .ok (.iaload, 1) := by decide +kernel
theorem dL_law_740 : decode cL_law 740 = .ok (.invokevirtual 90, 3) := by decide +kernel
theorem dL_law_743 : decode cL_law 743 = .ok (.aload_n 2, 1) := by decide +kernel
theorem dL_law_744 : decode cL_law 744 = .ok (.aload_n 0, 1) := by decide +kernel
theorem dL_law_745 : decode cL_law 745 = .ok (.iload_n 3, 1) := by decide +kernel
theorem dL_law_746 : decode cL_law 746 = .ok (.iconst 1, 1) := by decide +kernel
theorem dL_law_747 : decode cL_law 747 = .ok (.iadd, 1) := by decide +kernel
theorem dL_law_748 : decode cL_law 748 = .ok (.iaload, 1) := by decide +kernel
theorem dL_law_749 : decode cL_law 749 = .ok (.aload_n 0, 1) := by decide +kernel
theorem dL_law_750 : decode cL_law 750 = .ok (.iload_n 3, 1) := by decide +kernel
theorem dL_law_751 : decode cL_law 751 = .ok (.iconst 2, 1) := by decide +kernel
theorem dL_law_752 : decode cL_law 752 = .ok (.iadd, 1) := by decide +kernel
theorem dL_law_753 : decode cL_law 753 = .ok (.iaload, 1) := by decide +kernel
theorem dL_law_754 : decode cL_law 754 = .ok (.aload_n 0, 1) := by decide +kernel
theorem dL_law_755 : decode cL_law 755 = .ok (.iload_n 3, 1) := by decide +kernel
theorem dL_law_756 : decode cL_law 756 = .ok (.iconst 3, 1) := by decide +kernel
theorem dL_law_757 : decode cL_law 757 = .ok (.iadd, 1) := by decide +kernel
theorem dL_law_758 : decode cL_law 758 = .ok (.iaload, 1) := by decide +kernel
theorem dL_law_759 : decode cL_law 759 = .ok (.invokevirtual 93, 3) := by decide +kernel
theorem dL_law_762 : decode cL_law 762 = .ok (.if_icmp .eq 161, 3) := by decide +kernel
theorem dL_law_765 : decode cL_law 765 = .ok (.iconst 0, 1) := by decide +kernel
theorem dL_law_766 : decode cL_law 766 = .ok (.ireturn, 1) := by decide +kernel
theorem dL_law_767 : decode cL_law 767 = .ok (.aload_n 1, 1) := by decide +kernel
theorem dL_law_768 : decode cL_law 768 = .ok (.aload_n 0, 1) := by decide +kernel
theorem dL_law_769 : decode cL_law 769 = .ok (.iload_n 3, 1) := by decide +kernel
theorem dL_law_770 : decode cL_law 770 = .ok (.iconst 1, 1) := by decide +kernel
theorem dL_law_771 : decode cL_law 771 = .ok (.iadd, 1) := by decide +kernel
theorem dL_law_772 : decode cL_law 772 = .ok (.iaload, 1) := by decide +kernel
theorem dL_law_773 : decode cL_law 773 = .ok (.aload_n 0, 1) := by decide +kernel
theorem dL_law_774 : decode cL_law 774 = .ok (.iload_n 3, 1) := by decide +kernel
theorem dL_law_775 : decode cL_law 775 = .ok (.iconst 2, 1) := by decide +kernel
theorem dL_law_776 : decode cL_law 776 = .ok (.iadd, 1) := by decide +kernel
theorem dL_law_777 : decode cL_law 777 = .ok (.iaload, 1) := by decide +kernel
theorem dL_law_778 : decode cL_law 778 = .ok (.aload_n 0, 1) := by decide +kernel
theorem dL_law_779 : decode cL_law 779 = .ok (.iload_n 3, 1) := by decide +kernel
theorem dL_law_780 : decode cL_law 780 = .ok (.iconst 3, 1) := by decide +kernel
theorem dL_law_781 : decode cL_law 781 = .ok (.iadd, 1) := by decide +kernel
theorem dL_law_782 : decode cL_law 782 = .ok (.iaload, 1) := by decide +kernel
theorem dL_law_783 : decode cL_law 783 = .ok (.aload_n 0, 1) := by decide +kernel
theorem dL_law_784 : decode cL_law 784 = .ok (.iload_n 3, 1) := by decide +kernel
theorem dL_law_785 : decode cL_law 785 = .ok (.iconst 4, 1) := by decide +kernel
theorem dL_law_786 : decode cL_law 786 = .ok (.iadd, 1) := by decide +kernel
theorem dL_law_787 : decode cL_law 787 = .ok (.iaload, 1) := by decide +kernel
theorem dL_law_788 : decode cL_law 788 = .ok (.invokevirtual 94, 3) := by decide +kernel
theorem dL_law_791 : decode cL_law 791 = .ok (.aload_n 2, 1) := by decide +kernel
theorem dL_law_792 : decode cL_law 792 = .ok (.aload_n 0, 1) := by decide +kernel
theorem dL_law_793 : decode cL_law 793 = .ok (.iload_n 3, 1) := by decide +kernel
theorem dL_law_794 : decode cL_law 794 = .ok (.iconst 1, 1) := by decide +kernel
theorem dL_law_795 : decode cL_law 795 = .ok (.iadd, 1) := by decide +kernel
theorem dL_law_796 : decode cL_law 796 = .ok (.iaload, 1) := by decide +kernel
theorem dL_law_797 : decode cL_law 797 = .ok (.aload_n 0, 1) := by decide +kernel
theorem dL_law_798 : decode cL_law 798 = .ok (.iload_n 3, 1) := by decide +kernel
theorem dL_law_799 : decode cL_law 799 = .ok (.iconst 2, 1) := by decide +kernel
theorem dL_law_800 : decode cL_law 800 = .ok (.iadd, 1) := by decide +kernel
theorem dL_law_801 : decode cL_law 801 = .ok (.iaload, 1) := by decide +kernel
theorem dL_law_802 : decode cL_law 802 = .ok (.aload_n 0, 1) := by decide +kernel
theorem dL_law_803 : decode cL_law 803 = .ok (.iload_n 3, 1) := by decide +kernel
theorem dL_law_804 : decode cL_law 804 = .ok (.iconst 3, 1) := by decide +kernel
theorem dL_law_805 : decode cL_law 805 = .ok (.iadd, 1) := by decide +kernel
theorem dL_law_806 : decode cL_law 806 = .ok (.iaload, 1) := by decide +kernel
theorem dL_law_807 : decode cL_law 807 = .ok (.aload_n 0, 1) := by decide +kernel
theorem dL_law_808 : decode cL_law 808 = .ok (.iload_n 3, 1) := by decide +kernel
theorem dL_law_809 : decode cL_law 809 = .ok (.iconst 4, 1) := by decide +kernel
theorem dL_law_810 : decode cL_law 810 = .ok (.iadd, 1) := by decide +kernel
theorem dL_law_811 : decode cL_law 811 = .ok (.iaload, 1) := by decide +kernel
theorem dL_law_812 : decode cL_law 812 = .ok (.invokevirtual 98, 3) := by decide +kernel
theorem dL_law_815 : decode cL_law 815 = .ok (.lcmp, 1) := by decide +kernel
theorem dL_law_816 : decode cL_law 816 = .ok (.ifCond .eq 107, 3) := by decide +kernel
theorem dL_law_819 : decode cL_law 819 = .ok (.iconst 0, 1) := by decide +kernel
theorem dL_law_820 : decode cL_law 820 = .ok (.ireturn, 1) := by decide +kernel
theorem dL_law_821 : decode cL_law 821 = .ok (.aload_n 1, 1) := by decide +kernel
theorem dL_law_822 : decode cL_law 822 = .ok (.aload_n 0, 1) := by decide +kernel
theorem dL_law_823 : decode cL_law 823 = .ok (.iload_n 3, 1) := by decide +kernel
theorem dL_law_824 : decode cL_law 824 = .ok (.iconst 1, 1) := by decide +kernel
theorem dL_law_825 : decode cL_law 825 = .ok (.iadd, 1) := by decide +kernel
theorem dL_law_826 : decode cL_law 826 = .ok (.iaload, 1) := by decide +kernel
theorem dL_law_827 : decode cL_law 827 = .ok (.aload_n 0, 1) := by decide +kernel
theorem dL_law_828 : decode cL_law 828 = .ok (.iload_n 3, 1) := by decide +kernel
theorem dL_law_829 : decode cL_law 829 = .ok (.iconst 2, 1) := by decide +kernel
theorem dL_law_830 : decode cL_law 830 = .ok (.iadd, 1) := by decide +kernel
theorem dL_law_831 : decode cL_law 831 = .ok (.iaload, 1) := by decide +kernel
theorem dL_law_832 : decode cL_law 832 = .ok (.aload_n 0, 1) := by decide +kernel
theorem dL_law_833 : decode cL_law 833 = .ok (.iload_n 3, 1) := by decide +kernel
theorem dL_law_834 : decode cL_law 834 = .ok (.iconst 3, 1) := by decide +kernel
theorem dL_law_835 : decode cL_law 835 = .ok (.iadd, 1) := by decide +kernel
theorem dL_law_836 : decode cL_law 836 = .ok (.iaload, 1) := by decide +kernel
theorem dL_law_837 : decode cL_law 837 = .ok (.invokevirtual 99, 3) := by decide +kernel
theorem dL_law_840 : decode cL_law 840 = .ok (.aload_n 2, 1) := by decide +kernel
theorem dL_law_841 : decode cL_law 841 = .ok (.aload_n 0, 1) := by decide +kernel
theorem dL_law_842 : decode cL_law 842 = .ok (.iload_n 3, 1) := by decide +kernel
theorem dL_law_843 : decode cL_law 843 = .ok (.iconst 1, 1) := by decide +kernel
theorem dL_law_844 : decode cL_law 844 = .ok (.iadd, 1) := by decide +kernel
theorem dL_law_845 : decode cL_law 845 = .ok (.iaload, 1) := by decide +kernel
theorem dL_law_846 : decode cL_law 846 = .ok (.aload_n 0, 1) := by decide +kernel
theorem dL_law_847 : decode cL_law 847 = .ok (.iload_n 3, 1) := by decide +kernel
theorem dL_law_848 : decode cL_law 848 = .ok (.iconst 2, 1) := by decide +kernel
theorem dL_law_849 : decode cL_law 849 = .ok (.iadd, 1) := by decide +kernel
theorem dL_law_850 : decode cL_law 850 = .ok (.iaload, 1) := by decide +kernel
theorem dL_law_851 : decode cL_law 851 = .ok (.aload_n 0, 1) := by decide +kernel
theorem dL_law_852 : decode cL_law 852 = .ok (.iload_n 3, 1) := by decide +kernel
theorem dL_law_853 : decode cL_law 853 = .ok (.iconst 3, 1) := by decide +kernel
theorem dL_law_854 : decode cL_law 854 = .ok (.iadd, 1) := by decide +kernel
theorem dL_law_855 : decode cL_law 855 = .ok (.iaload, 1) := by decide +kernel
theorem dL_law_856 : decode cL_law 856 = .ok (.invokevirtual 102, 3) := by decide +kernel
theorem dL_law_859 : decode cL_law 859 = .ok (.if_icmp .eq 64, 3) := by decide +kernel
theorem dL_law_862 : decode cL_law 862 = .ok (.iconst 0, 1) := by decide +kernel
theorem dL_law_863 : decode cL_law 863 = .ok (.ireturn, 1) := by decide +kernel
theorem dL_law_864 : decode cL_law 864 = .ok (.aload_n 1, 1) := by decide +kernel
theorem dL_law_865 : decode cL_law 865 = .ok (.invokevirtual 103, 3) := by decide +kernel
theorem dL_law_868 : decode cL_law 868 = .ok (.aload_n 2, 1) := by decide +kernel
theorem dL_law_869 : decode cL_law 869 = .ok (.invokevirtual 106, 3) := by decide +kernel
theorem dL_law_872 : decode cL_law 872 = .ok (.if_icmp .eq 51, 3) := by decide +kernel
theorem dL_law_875 : decode cL_law 875 = .ok (.iconst 0, 1) := by decide +kernel
theorem dL_law_876 : decode cL_law 876 = .ok (.ireturn, 1) := by decide +kernel
theorem dL_law_877 : decode cL_law 877 = .ok (.aload_n 1, 1) := by decide +kernel
theorem dL_law_878 : decode cL_law 878 = .ok (.aload_n 0, 1) := by decide +kernel
theorem dL_law_879 : decode cL_law 879 = .ok (.iload_n 3, 1) := by decide +kernel
theorem dL_law_880 : decode cL_law 880 = .ok (.iconst 1, 1) := by decide +kernel
theorem dL_law_881 : decode cL_law 881 = .ok (.iadd, 1) := by decide +kernel
theorem dL_law_882 : decode cL_law 882 = .ok (.iaload, 1) := by decide +kernel
theorem dL_law_883 : decode cL_law 883 = .ok (.invokevirtual 107, 3) := by decide +kernel
theorem dL_law_886 : decode cL_law 886 = .ok (.aload_n 2, 1) := by decide +kernel
theorem dL_law_887 : decode cL_law 887 = .ok (.aload_n 0, 1) := by decide +kernel
theorem dL_law_888 : decode cL_law 888 = .ok (.iload_n 3, 1) := by decide +kernel
theorem dL_law_889 : decode cL_law 889 = .ok (.iconst 1, 1) := by decide +kernel
theorem dL_law_890 : decode cL_law 890 = .ok (.iadd, 1) := by decide +kernel
theorem dL_law_891 : decode cL_law 891 = .ok (.iaload, 1) := by decide +kernel
theorem dL_law_892 : decode cL_law 892 = .ok (.invokevirtual 110, 3) := by decide +kernel
theorem dL_law_895 : decode cL_law 895 = .ok (.if_icmp .eq 28, 3) := by decide +kernel
theorem dL_law_898 : decode cL_law 898 = .ok (.iconst 0, 1) := by decide +kernel
theorem dL_law_899 : decode cL_law 899 = .ok (.ireturn, 1) := by decide +kernel
theorem dL_law_900 : decode cL_law 900 = .ok (.aload_n 1, 1) := by decide +kernel
theorem dL_law_901 : decode cL_law 901 = .ok (.aload_n 0, 1) := by decide +kernel
theorem dL_law_902 : decode cL_law 902 = .ok (.iload_n 3, 1) := by decide +kernel
theorem dL_law_903 : decode cL_law 903 = .ok (.iconst 1, 1) := by decide +kernel
theorem dL_law_904 : decode cL_law 904 = .ok (.iadd, 1) := by decide +kernel
theorem dL_law_905 : decode cL_law 905 = .ok (.iaload, 1) := by decide +kernel
theorem dL_law_906 : decode cL_law 906 = .ok (.invokevirtual 111, 3) := by decide +kernel
theorem dL_law_909 : decode cL_law 909 = .ok (.aload_n 2, 1) := by decide +kernel
theorem dL_law_910 : decode cL_law 910 = .ok (.aload_n 0, 1) := by decide +kernel
theorem dL_law_911 : decode cL_law 911 = .ok (.iload_n 3, 1) := by decide +kernel
theorem dL_law_912 : decode cL_law 912 = .ok (.iconst 1, 1) := by decide +kernel
theorem dL_law_913 : decode cL_law 913 = .ok (.iadd, 1) := by decide +kernel
theorem dL_law_914 : decode cL_law 914 = .ok (.iaload, 1) := by decide +kernel
theorem dL_law_915 : decode cL_law 915 = .ok (.invokevirtual 114, 3) := by decide +kernel
theorem dL_law_918 : decode cL_law 918 = .ok (.if_icmp .eq 5, 3) := by decide +kernel
theorem dL_law_921 : decode cL_law 921 = .ok (.iconst 0, 1) := by decide +kernel
theorem dL_law_922 : decode cL_law 922 = .ok (.ireturn, 1) := by decide +kernel
theorem dL_law_923 : decode cL_law 923 = .ok (.iinc 3 7, 3) := by decide +kernel
theorem dL_law_926 : decode cL_law 926 = .ok (.goto (-908), 3) := by decide +kernel
theorem dL_law_929 : decode cL_law 929 = .ok (.iconst 1, 1) := by decide +kernel
theorem dL_law_930 : decode cL_law 930 = .ok (.ireturn, 1) := by decide +kernel
theorem dX0_init_0 : decode cX0_init 0 = .ok (.aload_n 0, 1) := by decide +kernel
theorem dX0_init_1 : decode cX0_init 1 = .ok (.invokespecial 1, 3) := by decide +kernel
theorem dX0_init_4 : decode cX0_init 4 = .ok (.aload_n 0, 1) := by decide +kernel
theorem dX0_init_5 : decode cX0_init 5 = .ok (.sipush 600, 3) := by decide +kernel
theorem dX0_init_8 : decode cX0_init 8 = .ok (.newarray .byte, 2) := by decide +kernel
theorem dX0_init_10 : decode cX0_init 10 = .ok (.putfield 9, 3) := by decide +kernel
theorem dX0_init_13 : decode cX0_init 13 = .ok (.aload_n 0, 1) := by decide +kernel
theorem dX0_init_14 : decode cX0_init 14 = .ok (.iconst (-1), 1) := by decide +kernel
theorem dX0_init_15 : decode cX0_init 15 = .ok (.putfield 13, 3) := by decide +kernel
theorem dX0_init_18 : decode cX0_init 18 = .ok (.aload_n 0, 1) := by decide +kernel
theorem dX0_init_19 : decode cX0_init 19 = .ok (.new 17, 3) := by decide +kernel
theorem dX0_init_22 : decode cX0_init 22 = .ok (.dup, 1) := by decide +kernel
theorem dX0_init_23 : decode cX0_init 23 = .ok (.iconst 1, 1) := by decide +kernel
theorem dX0_init_24 : decode cX0_init 24 = .ok (.invokespecial 19, 3) := by decide +kernel
theorem dX0_init_27 : decode cX0_init 27 = .ok (.putfield 22, 3) := by decide +kernel
theorem dX0_init_30 : decode cX0_init 30 = .ok (.aload_n 0, 1) := by decide +kernel
theorem dX0_init_31 : decode cX0_init 31 = .ok (.bipush 24, 2) := by decide +kernel
theorem dX0_init_33 : decode cX0_init 33 = .ok (.newarray .int, 2) := by decide +kernel
theorem dX0_init_35 : decode cX0_init 35 = .ok (.putfield 26, 3) := by decide +kernel
theorem dX0_init_38 : decode cX0_init 38 = .ok (.aload_n 0, 1) := by decide +kernel
theorem dX0_init_39 : decode cX0_init 39 = .ok (.bipush 24, 2) := by decide +kernel
theorem dX0_init_41 : decode cX0_init 41 = .ok (.newarray .int, 2) := by decide +kernel
theorem dX0_init_43 : decode cX0_init 43 = .ok (.putfield 30, 3) := by decide +kernel
theorem dX0_init_46 : decode cX0_init 46 = .ok (.aload_n 0, 1) := by decide +kernel
theorem dX0_init_47 : decode cX0_init 47 = .ok (.bipush 24, 2) := by decide +kernel
theorem dX0_init_49 : decode cX0_init 49 = .ok (.newarray .int, 2) := by decide +kernel
theorem dX0_init_51 : decode cX0_init 51 = .ok (.putfield 33, 3) := by decide +kernel
theorem dX0_init_54 : decode cX0_init 54 = .ok (.aload_n 0, 1) := by decide +kernel
theorem dX0_init_55 : decode cX0_init 55 = .ok (.bipush 8, 2) := by decide +kernel
theorem dX0_init_57 : decode cX0_init 57 = .ok (.newarray .int, 2) := by decide +kernel
theorem dX0_init_59 : decode cX0_init 59 = .ok (.putfield 36, 3) := by decide +kernel
theorem dX0_init_62 : decode cX0_init 62 = .ok (.aload_n 0, 1) := by decide +kernel
theorem dX0_init_63 : decode cX0_init 63 = .ok (.bipush 8, 2) := by decide +kernel
theorem dX0_init_65 : decode cX0_init 65 = .ok (.newarray .int, 2) := by decide +kernel
theorem dX0_init_67 : decode cX0_init 67 = .ok (.putfield 39, 3) := by decide +kernel
theorem dX0_init_70 : decode cX0_init 70 = .ok (.aload_n 0, 1) := by decide +kernel
theorem dX0_init_71 : decode cX0_init 71 = .ok (.bipush 100, 2) := by decide +kernel
theorem dX0_init_73 : decode cX0_init 73 = .ok (.newarray .int, 2) := by decide +kernel
theorem dX0_init_75 : decode cX0_init 75 = .ok (.putfield 42, 3) := by decide +kernel
theorem dX0_init_78 : decode cX0_init 78 = .ok (.aload_n 0, 1) := by decide +kernel
theorem dX0_init_79 : decode cX0_init 79 = .ok (.bipush 60, 2) := by decide +kernel
theorem dX0_init_81 : decode cX0_init 81 = .ok (.anewarray 45, 3) := by decide +kernel
theorem dX0_init_84 : decode cX0_init 84 = .ok (.putfield 47, 3) := by decide +kernel
theorem dX0_init_87 : decode cX0_init 87 = .ok (.aload_n 0, 1) := by decide +kernel
theorem dX0_init_88 : decode cX0_init 88 = .ok (.bipush 30, 2) := by decide +kernel
theorem dX0_init_90 : decode cX0_init 90 = .ok (.newarray .int, 2) := by decide +kernel
theorem dX0_init_92 : decode cX0_init 92 = .ok (.putfield 51, 3) := by decide +kernel
theorem dX0_init_95 : decode cX0_init 95 = .ok (.aload_n 0, 1) := by decide +kernel
theorem dX0_init_96 : decode cX0_init 96 = .ok (.new 54, 3) := by decide +kernel
theorem dX0_init_99 : decode cX0_init 99 = .ok (.dup, 1) := by decide +kernel
theorem dX0_init_100 : decode cX0_init 100 = .ok (.aload_n 0, 1) := by decide +kernel
theorem dX0_init_101 : decode cX0_init 101 = .ok (.invokespecial 56, 3) := by decide +kernel
theorem dX0_init_104 : decode cX0_init 104 = .ok (.putfield 59, 3) := by decide +kernel
theorem dX0_init_107 : decode cX0_init 107 = .ok (.aload_n 0, 1) := by decide +kernel
theorem dX0_init_108 : decode cX0_init 108 = .ok (.invokestatic 63, 3) := by decide +kernel
theorem dX0_init_111 : decode cX0_init 111 = .ok (.putfield 69, 3) := by decide +kernel
theorem dX0_init_114 : decode cX0_init 114 = .ok (.aload_n 0, 1) := by decide +kernel
theorem dX0_init_115 : decode cX0_init 115 = .ok (.bipush 24, 2) := by decide +kernel
theorem dX0_init_117 : decode cX0_init 117 = .ok (.newarray .long, 2) := by decide +kernel
theorem dX0_init_119 : decode cX0_init 119 = .ok (.putfield 73, 3) := by decide +kernel
theorem dX0_init_122 : decode cX0_init 122 = .ok (.aload_n 0, 1) := by decide +kernel
theorem dX0_init_123 : decode cX0_init 123 = .ok (.bipush 24, 2) := by decide +kernel
theorem dX0_init_125 : decode cX0_init 125 = .ok (.newarray .long, 2) := by decide +kernel
theorem dX0_init_127 : decode cX0_init 127 = .ok (.putfield 77, 3) := by decide +kernel
theorem dX0_init_130 : decode cX0_init 130 = .ok (.aload_n 0, 1) := by decide +kernel
theorem dX0_init_131 : decode cX0_init 131 = .ok (.bipush 24, 2) := by decide +kernel
theorem dX0_init_133 : decode cX0_init 133 = .ok (.newarray .boolean, 2) := by decide +kernel
theorem dX0_init_135 : decode cX0_init 135 = .ok (.putfield 80, 3) := by decide +kernel
theorem dX0_init_138 : decode cX0_init 138 = .ok (.aload_n 0, 1) := by decide +kernel
theorem dX0_init_139 : decode cX0_init 139 = .ok (.bipush 8, 2) := by decide +kernel
theorem dX0_init_141 : decode cX0_init 141 = .ok (.bipush 8, 2) := by decide +kernel
theorem dX0_init_143 : decode cX0_init 143 = .ok (.multianewarray 84 2, 4) := by decide +kernel
theorem dX0_init_147 : decode cX0_init 147 = .ok (.putfield 86, 3) := by decide +kernel
theorem dX0_init_150 : decode cX0_init 150 = .ok (.aload_n 0, 1) := by decide +kernel
theorem dX0_init_151 : decode cX0_init 151 = .ok (.bipush 9, 2) := by decide +kernel
theorem dX0_init_153 : decode cX0_init 153 = .ok (.sipush 256, 3) := by decide +kernel
theorem dX0_init_156 : decode cX0_init 156 = .ok (.multianewarray 84 2, 4) := by decide +kernel
theorem dX0_init_160 : decode cX0_init 160 = .ok (.putfield 89, 3) := by decide +kernel
theorem dX0_init_163 : decode cX0_init 163 = .ok (.iconst 0, 1) := by decide +kernel
theorem dX0_init_164 : decode cX0_init 164 = .ok (.istore_n 1, 1) := by decide +kernel
theorem dX0_init_165 : decode cX0_init 165 = .ok (.iload_n 1, 1) := by decide +kernel
theorem dX0_init_166 : decode cX0_init 166 = .ok (.bipush 100, 2) := by decide +kernel
theorem dX0_init_168 : decode cX0_init 168 = .ok (.if_icmp .ge 17, 3) := by decide +kernel
theorem dX0_init_171 : decode cX0_init 171 = .ok (.aload_n 0, 1) := by decide +kernel
theorem dX0_init_172 : decode cX0_init 172 = .ok (.getfield 42, 3) := by decide +kernel
theorem dX0_init_175 : decode cX0_init 175 = .ok (.iload_n 1, 1) := by decide +kernel
theorem dX0_init_176 : decode cX0_init 176 = .ok (.bipush 100, 2) := by decide +kernel
theorem dX0_init_178 : decode cX0_init 178 = .ok (.iastore, 1) := by decide +kernel
theorem dX0_init_179 : decode cX0_init 179 = .ok (.iinc 1 1, 3) := by decide +kernel
theorem dX0_init_182 : decode cX0_init 182 = .ok (.goto (-17), 3) := by decide +kernel
theorem dX0_init_185 : decode cX0_init 185 = .ok (.return_, 1) := by decide +kernel
theorem dX0_person_0 : decode cX0_person 0 = .ok (.aload_n 0, 1) := by decide +kernel
theorem dX0_person_1 : decode cX0_person 1 = .ok (.getfield 92, 3) := by decide +kernel
theorem dX0_person_4 : decode cX0_person 4 = .ok (.bipush 24, 2) := by decide +kernel
theorem dX0_person_6 : decode cX0_person 6 = .ok (.if_icmp .eq 29, 3) := by decide +kernel
theorem dX0_person_9 : decode cX0_person 9 = .ok (.iload_n 1, 1) := by decide +kernel
theorem dX0_person_10 : decode cX0_person 10 = .ok (.iconst (-1), 1) := by decide +kernel
theorem dX0_person_11 : decode cX0_person 11 = .ok (.if_icmp .eq 11, 3) := by decide +kernel
theorem dX0_person_14 : decode cX0_person 14 = .ok (.aload_n 0, 1) := by decide +kernel
theorem dX0_person_15 : decode cX0_person 15 = .ok (.iload_n 1, 1) := by decide +kernel
theorem dX0_person_16 : decode cX0_person 16 = .ok (.invokevirtual 99, 3) := by decide +kernel
theorem dX0_person_19 : decode cX0_person 19 = .ok (.ifCond .eq 16, 3) := by decide +kernel
theorem dX0_person_22 : decode cX0_person 22 = .ok (.iload_n 2, 1) := by decide +kernel
theorem dX0_person_23 : decode cX0_person 23 = .ok (.iconst (-1), 1) := by decide +kernel
theorem dX0_person_24 : decode cX0_person 24 = .ok (.if_icmp .eq 13, 3) := by decide +kernel
theorem dX0_person_27 : decode cX0_person 27 = .ok (.aload_n 0, 1) := by decide +kernel
theorem dX0_person_28 : decode cX0_person 28 = .ok (.iload_n 2, 1) := by decide +kernel
theorem dX0_person_29 : decode cX0_person 29 = .ok (.invokevirtual 99, 3) := by decide +kernel
theorem dX0_person_32 : decode cX0_person 32 = .ok (.ifCond .ne 5, 3) := by decide +kernel
theorem dX0_person_35 : decode cX0_person 35 = .ok (.iconst (-1), 1) := by decide +kernel
theorem dX0_person_36 : decode cX0_person 36 = .ok (.ireturn, 1) := by decide +kernel
theorem dX0_person_37 : decode cX0_person 37 = .ok (.aload_n 0, 1) := by decide +kernel
theorem dX0_person_38 : decode cX0_person 38 = .ok (.getfield 26, 3) := by decide +kernel
theorem dX0_person_41 : decode cX0_person 41 = .ok (.aload_n 0, 1) := by decide +kernel
theorem dX0_person_42 : decode cX0_person 42 = .ok (.getfield 92, 3) := by decide +kernel
theorem dX0_person_45 : decode cX0_person 45 = .ok (.iload_n 1, 1) := by decide +kernel
theorem dX0_person_46 : decode cX0_person 46 = .ok (.iastore, 1) := by decide +kernel
theorem dX0_person_47 : decode cX0_person 47 = .ok (.aload_n 0, 1) := by decide +kernel
theorem dX0_person_48 : decode cX0_person 48 = .ok (.getfield 30, 3) := by decide +kernel
theorem dX0_person_51 : decode cX0_person 51 = .ok (.aload_n 0, 1) := by decide +kernel
theorem dX0_person_52 : decode cX0_person 52 = .ok (.getfield 92, 3) := by decide +kernel
theorem dX0_person_55 : decode cX0_person 55 = .ok (.iload_n 2, 1) := by decide +kernel
theorem dX0_person_56 : decode cX0_person 56 = .ok (.iastore, 1) := by decide +kernel
theorem dX0_person_57 : decode cX0_person 57 = .ok (.aload_n 0, 1) := by decide +kernel
theorem dX0_person_58 : decode cX0_person 58 = .ok (.getfield 33, 3) := by decide +kernel
theorem dX0_person_61 : decode cX0_person 61 = .ok (.aload_n 0, 1) := by decide +kernel
theorem dX0_person_62 : decode cX0_person 62 = .ok (.getfield 92, 3) := by decide +kernel
theorem dX0_person_65 : decode cX0_person 65 = .ok (.iconst (-1), 1) := by decide +kernel
theorem dX0_person_66 : decode cX0_person 66 = .ok (.iastore, 1) := by decide +kernel
theorem dX0_person_67 : decode cX0_person 67 = .ok (.aload_n 0, 1) := by decide +kernel
theorem dX0_person_68 : decode cX0_person 68 = .ok (.dup, 1) := by decide +kernel
theorem dX0_person_69 : decode cX0_person 69 = .ok (.getfield 92, 3) := by decide +kernel
theorem dX0_person_72 : decode cX0_person 72 = .ok (.iconst 1, 1) := by decide +kernel
theorem dX0_person_73 : decode cX0_person 73 = .ok (.iadd, 1) := by decide +kernel
theorem dX0_person_74 : decode cX0_person 74 = .ok (.putfield 92, 3) := by decide +kernel
theorem dX0_person_77 : decode cX0_person 77 = .ok (.aload_n 0, 1) := by decide +kernel
theorem dX0_person_78 : decode cX0_person 78 = .ok (.getfield 92, 3) := by decide +kernel
theorem dX0_person_81 : decode cX0_person 81 = .ok (.iconst 1, 1) := by decide +kernel
theorem dX0_person_82 : decode cX0_person 82 = .ok (.isub, 1) := by decide +kernel
theorem dX0_person_83 : decode cX0_person 83 = .ok (.ireturn, 1) := by decide +kernel
theorem dX0_isPerson_0 : decode cX0_isPerson 0 = .ok (.iload_n 1, 1) := by decide +kernel
theorem dX0_isPerson_1 : decode cX0_isPerson 1 = .ok (.ifCond .lt 15, 3) := by decide +kernel
theorem dX0_isPerson_4 : decode cX0_isPerson 4 = .ok (.iload_n 1, 1) := by decide +kernel
theorem dX0_isPerson_5 : decode cX0_isPerson 5 = .ok (.aload_n 0, 1) := by decide +kernel
theorem dX0_isPerson_6 : decode cX0_isPerson 6 = .ok (.getfield 92, 3) := by decide +kernel
theorem dX0_isPerson_9 : decode cX0_isPerson 9 = .ok (.if_icmp .ge 7, 3) := by decide +kernel
theorem dX0_isPerson_12 : decode cX0_isPerson 12 = .ok (.iconst 1, 1) := by decide +kernel
theorem dX0_isPerson_13 : decode cX0_isPerson 13 = .ok (.goto 4, 3) := by decide +kernel
theorem dX0_isPerson_16 : decode cX0_isPerson 16 = .ok (.iconst 0, 1) := by decide +kernel
theorem dX0_isPerson_17 : decode cX0_isPerson 17 = .ok (.ireturn, 1) := by decide +kernel
theorem dX0_dead_0 : decode cX0_dead 0 = .ok (.aload_n 0, 1) := by decide +kernel
theorem dX0_dead_1 : decode cX0_dead 1 = .ok (.iload_n 1, 1) := by decide +kernel
theorem dX0_dead_2 : decode cX0_dead 2 = .ok (.invokevirtual 99, 3) := by decide +kernel
theorem dX0_dead_5 : decode cX0_dead 5 = .ok (.ifCond .eq 19, 3) := by decide +kernel
theorem dX0_dead_8 : decode cX0_dead 8 = .ok (.iload_n 2, 1) := by decide +kernel
theorem dX0_dead_9 : decode cX0_dead 9 = .ok (.invokestatic 103, 3) := by decide +kernel
theorem dX0_dead_12 : decode cX0_dead 12 = .ok (.ifCond .eq 12, 3) := by decide +kernel
theorem dX0_dead_15 : decode cX0_dead 15 = .ok (.aload_n 0, 1) := by decide +kernel
theorem dX0_dead_16 : decode cX0_dead 16 = .ok (.getfield 33, 3) := by decide +kernel
theorem dX0_dead_19 : decode cX0_dead 19 = .ok (.iload_n 1, 1) := by decide +kernel
theorem dX0_dead_20 : decode cX0_dead 20 = .ok (.iaload, 1) := by decide +kernel
theorem dX0_dead_21 : decode cX0_dead 21 = .ok (.ifCond .lt 5, 3) := by decide +kernel
theorem dX0_dead_24 : decode cX0_dead 24 = .ok (.iconst 0, 1) := by decide +kernel
theorem dX0_dead_25 : decode cX0_dead 25 = .ok (.ireturn, 1) := by decide +kernel
theorem dX0_dead_26 : decode cX0_dead 26 = .ok (.aload_n 0, 1) := by decide +kernel
theorem dX0_dead_27 : decode cX0_dead 27 = .ok (.getfield 33, 3) := by decide +kernel
theorem dX0_dead_30 : decode cX0_dead 30 = .ok (.iload_n 1, 1) := by decide +kernel
theorem dX0_dead_31 : decode cX0_dead 31 = .ok (.iload_n 2, 1) := by decide +kernel
theorem dX0_dead_32 : decode cX0_dead 32 = .ok (.iastore, 1) := by decide +kernel
theorem dX0_dead_33 : decode cX0_dead 33 = .ok (.iconst 1, 1) := by decide +kernel
theorem dX0_dead_34 : decode cX0_dead 34 = .ok (.ireturn, 1) := by decide +kernel
theorem dX0_isDay_0 : decode cX0_isDay 0 = .ok (.iload_n 0, 1) := by decide +kernel
theorem dX0_isDay_1 : decode cX0_isDay 1 = .ok (.ifCond .lt 13, 3) := by decide +kernel
theorem dX0_isDay_4 : decode cX0_isDay 4 = .ok (.iload_n 0, 1) := by decide +kernel
theorem dX0_isDay_5 : decode cX0_isDay 5 = .ok (.ldc 98, 2) := by decide +kernel
theorem dX0_isDay_7 : decode cX0_isDay 7 = .ok (.if_icmp .gt 7, 3) := by decide +kernel
theorem dX0_isDay_10 : decode cX0_isDay 10 = .ok (.iconst 1, 1) := by decide +kernel
theorem dX0_isDay_11 : decode cX0_isDay 11 = .ok (.goto 4, 3) := by decide +kernel
theorem dX0_isDay_14 : decode cX0_isDay 14 = .ok (.iconst 0, 1) := by decide +kernel
theorem dX0_isDay_15 : decode cX0_isDay 15 = .ok (.ireturn, 1) := by decide +kernel
theorem dX0_house_0 : decode cX0_house 0 = .ok (.aload_n 0, 1) := by decide +kernel
theorem dX0_house_1 : decode cX0_house 1 = .ok (.getfield 95, 3) := by decide +kernel
theorem dX0_house_4 : decode cX0_house 4 = .ok (.bipush 8, 2) := by decide +kernel
theorem dX0_house_6 : decode cX0_house 6 = .ok (.if_icmp .eq 21, 3) := by decide +kernel
theorem dX0_house_9 : decode cX0_house 9 = .ok (.aload_n 0, 1) := by decide +kernel
theorem dX0_house_10 : decode cX0_house 10 = .ok (.iload_n 1, 1) := by decide +kernel
theorem dX0_house_11 : decode cX0_house 11 = .ok (.invokevirtual 99, 3) := by decide +kernel
theorem dX0_house_14 : decode cX0_house 14 = .ok (.ifCond .eq 13, 3) := by decide +kernel
theorem dX0_house_17 : decode cX0_house 17 = .ok (.iload_n 2, 1) := by decide +kernel
theorem dX0_house_18 : decode cX0_house 18 = .ok (.ifCond .lt 9, 3) := by decide +kernel
theorem dX0_house_21 : decode cX0_house 21 = .ok (.iload_n 2, 1) := by decide +kernel
theorem dX0_house_22 : decode cX0_house 22 = .ok (.ldc 106, 2) := by decide +kernel
theorem dX0_house_24 : decode cX0_house 24 = .ok (.if_icmp .le 5, 3) := by decide +kernel
theorem dX0_house_27 : decode cX0_house 27 = .ok (.iconst (-1), 1) := by decide +kernel
theorem dX0_house_28 : decode cX0_house 28 = .ok (.ireturn, 1) := by decide +kernel
theorem dX0_house_29 : decode cX0_house 29 = .ok (.aload_n 0, 1) := by decide +kernel
theorem dX0_house_30 : decode cX0_house 30 = .ok (.getfield 36, 3) := by decide +kernel
theorem dX0_house_33 : decode cX0_house 33 = .ok (.aload_n 0, 1) := by decide +kernel
theorem dX0_house_34 : decode cX0_house 34 = .ok (.getfield 95, 3) := by decide +kernel
theorem dX0_house_37 : decode cX0_house 37 = .ok (.iload_n 1, 1) := by decide +kernel
theorem dX0_house_38 : decode cX0_house 38 = .ok (.iastore, 1) := by decide +kernel
theorem dX0_house_39 : decode cX0_house 39 = .ok (.aload_n 0, 1) := by decide +kernel
theorem dX0_house_40 : decode cX0_house 40 = .ok (.getfield 39, 3) := by decide +kernel
theorem dX0_house_43 : decode cX0_house 43 = .ok (.aload_n 0, 1) := by decide +kernel
theorem dX0_house_44 : decode cX0_house 44 = .ok (.getfield 95, 3) := by decide +kernel
theorem dX0_house_47 : decode cX0_house 47 = .ok (.iload_n 2, 1) := by decide +kernel
theorem dX0_house_48 : decode cX0_house 48 = .ok (.iastore, 1) := by decide +kernel
theorem dX0_house_49 : decode cX0_house 49 = .ok (.aload_n 0, 1) := by decide +kernel
theorem dX0_house_50 : decode cX0_house 50 = .ok (.dup, 1) := by decide +kernel
theorem dX0_house_51 : decode cX0_house 51 = .ok (.getfield 95, 3) := by decide +kernel
theorem dX0_house_54 : decode cX0_house 54 = .ok (.iconst 1, 1) := by decide +kernel
theorem dX0_house_55 : decode cX0_house 55 = .ok (.iadd, 1) := by decide +kernel
theorem dX0_house_56 : decode cX0_house 56 = .ok (.putfield 95, 3) := by decide +kernel
theorem dX0_house_59 : decode cX0_house 59 = .ok (.aload_n 0, 1) := by decide +kernel
theorem dX0_house_60 : decode cX0_house 60 = .ok (.getfield 95, 3) := by decide +kernel
theorem dX0_house_63 : decode cX0_house 63 = .ok (.iconst 1, 1) := by decide +kernel
theorem dX0_house_64 : decode cX0_house 64 = .ok (.isub, 1) := by decide +kernel
theorem dX0_house_65 : decode cX0_house 65 = .ok (.ireturn, 1) := by decide +kernel
theorem dX0_level_0 : decode cX0_level 0 = .ok (.iload_n 1, 1) := by decide +kernel
theorem dX0_level_1 : decode cX0_level 1 = .ok (.invokestatic 107, 3) := by decide +kernel
theorem dX0_level_4 : decode cX0_level 4 = .ok (.ifCond .eq 15, 3) := by decide +kernel
theorem dX0_level_7 : decode cX0_level 7 = .ok (.iload_n 2, 1) := by decide +kernel
theorem dX0_level_8 : decode cX0_level 8 = .ok (.iconst 1, 1) := by decide +kernel
theorem dX0_level_9 : decode cX0_level 9 = .ok (.if_icmp .lt 10, 3) := by decide +kernel
theorem dX0_level_12 : decode cX0_level 12 = .ok (.iload_n 2, 1) := by decide +kernel
theorem dX0_level_13 : decode cX0_level 13 = .ok (.sipush 10000, 3) := by decide +kernel
theorem dX0_level_16 : decode cX0_level 16 = .ok (.if_icmp .le 5, 3) := by decide +kernel
theorem dX0_level_19 : decode cX0_level 19 = .ok (.iconst 0, 1) := by decide +kernel
theorem dX0_level_20 : decode cX0_level 20 = .ok (.ireturn, 1) := by decide +kernel
theorem dX0_level_21 : decode cX0_level 21 = .ok (.aload_n 0, 1) := by decide +kernel
theorem dX0_level_22 : decode cX0_level 22 = .ok (.getfield 42, 3) := by decide +kernel
theorem dX0_level_25 : decode cX0_level 25 = .ok (.iload_n 1, 1) := by decide +kernel
theorem dX0_level_26 : decode cX0_level 26 = .ok (.iload_n 2, 1) := by decide +kernel
theorem dX0_level_27 : decode cX0_level 27 = .ok (.iastore, 1) := by decide +kernel
theorem dX0_level_28 : decode cX0_level 28 = .ok (.iconst 1, 1) := by decide +kernel
theorem dX0_level_29 : decode cX0_level 29 = .ok (.ireturn, 1) := by decide +kernel
theorem dX0_isYear_0 : decode cX0_isYear 0 = .ok (.iload_n 0, 1) := by decide +kernel
theorem dX0_isYear_1 : decode cX0_isYear 1 = .ok (.ifCond .lt 13, 3) := by decide +kernel
theorem dX0_isYear_4 : decode cX0_isYear 4 = .ok (.iload_n 0, 1) := by decide +kernel
theorem dX0_isYear_5 : decode cX0_isYear 5 = .ok (.bipush 100, 2) := by decide +kernel
theorem dX0_isYear_7 : decode cX0_isYear 7 = .ok (.if_icmp .ge 7, 3) := by decide +kernel
theorem dX0_isYear_10 : decode cX0_isYear 10 = .ok (.iconst 1, 1) := by decide +kernel
theorem dX0_isYear_11 : decode cX0_isYear 11 = .ok (.goto 4, 3) := by decide +kernel
theorem dX0_isYear_14 : decode cX0_isYear 14 = .ok (.iconst 0, 1) := by decide +kernel
theorem dX0_isYear_15 : decode cX0_isYear 15 = .ok (.ireturn, 1) := by decide +kernel
theorem dX0_money_0 : decode cX0_money 0 = .ok (.iload_n 1, 1) := by decide +kernel
theorem dX0_money_1 : decode cX0_money 1 = .ok (.ifCond .lt 23, 3) := by decide +kernel
theorem dX0_money_4 : decode cX0_money 4 = .ok (.iload_n 1, 1) := by decide +kernel
theorem dX0_money_5 : decode cX0_money 5 = .ok (.ldc 106, 2) := by decide +kernel
theorem dX0_money_7 : decode cX0_money 7 = .ok (.if_icmp .gt 17, 3) := by decide +kernel
theorem dX0_money_10 : decode cX0_money 10 = .ok (.iload_n 2, 1) := by decide +kernel
theorem dX0_money_11 : decode cX0_money 11 = .ok (.invokestatic 107, 3) := by decide +kernel
theorem dX0_money_14 : decode cX0_money 14 = .ok (.ifCond .eq 10, 3) := by decide +kernel
theorem dX0_money_17 : decode cX0_money 17 = .ok (.iload_n 3, 1) := by decide +kernel
theorem dX0_money_18 : decode cX0_money 18 = .ok (.invokestatic 107, 3) := by decide +kernel
theorem dX0_money_21 : decode cX0_money 21 = .ok (.ifCond .ne 9, 3) := by decide +kernel
theorem dX0_money_24 : decode cX0_money 24 = .ok (.ldc2_w 110, 3) := by decide +kernel
theorem dX0_money_27 : decode cX0_money 27 = .ok (.goto 10, 3) := by decide +kernel
theorem dX0_money_30 : decode cX0_money 30 = .ok (.aload_n 0, 1) := by decide +kernel
theorem dX0_money_31 : decode cX0_money 31 = .ok (.iload_n 1, 1) := by decide +kernel
theorem dX0_money_32 : decode cX0_money 32 = .ok (.iload_n 2, 1) := by decide +kernel
theorem dX0_money_33 : decode cX0_money 33 = .ok (.iload_n 3, 1) := by decide +kernel
theorem dX0_money_34 : decode cX0_money 34 = .ok (.invokevirtual 112, 3) := by decide +kernel
theorem dX0_money_37 : decode cX0_money 37 = .ok (.lreturn, 1) := by decide +kernel
theorem dX0_inMoney_0 : decode cX0_inMoney 0 = .ok (.iload_n 1, 1) := by decide +kernel
theorem dX0_inMoney_1 : decode cX0_inMoney 1 = .ok (.i2l, 1) := by decide +kernel
theorem dX0_inMoney_2 : decode cX0_inMoney 2 = .ok (.aload_n 0, 1) := by decide +kernel
theorem dX0_inMoney_3 : decode cX0_inMoney 3 = .ok (.getfield 42, 3) := by decide +kernel
theorem dX0_inMoney_6 : decode cX0_inMoney 6 = .ok (.iload_n 3, 1) := by decide +kernel
theorem dX0_inMoney_7 : decode cX0_inMoney 7 = .ok (.iaload, 1) := by decide +kernel
theorem dX0_inMoney_8 : decode cX0_inMoney 8 = .ok (.i2l, 1) := by decide +kernel
theorem dX0_inMoney_9 : decode cX0_inMoney 9 = .ok (.lmul, 1) := by decide +kernel
theorem dX0_inMoney_10 : decode cX0_inMoney 10 = .ok (.aload_n 0, 1) := by decide +kernel
theorem dX0_inMoney_11 : decode cX0_inMoney 11 = .ok (.getfield 42, 3) := by decide +kernel
theorem dX0_inMoney_14 : decode cX0_inMoney 14 = .ok (.iload_n 2, 1) := by decide +kernel
theorem dX0_inMoney_15 : decode cX0_inMoney 15 = .ok (.iaload, 1) := by decide +kernel
theorem dX0_inMoney_16 : decode cX0_inMoney 16 = .ok (.i2l, 1) := by decide +kernel
theorem dX0_inMoney_17 : decode cX0_inMoney 17 = .ok (.ldiv, 1) := by decide +kernel
theorem dX0_inMoney_18 : decode cX0_inMoney 18 = .ok (.lreturn, 1) := by decide +kernel
theorem dX0_paper_0 : decode cX0_paper 0 = .ok (.aload_n 0, 1) := by decide +kernel
theorem dX0_paper_1 : decode cX0_paper 1 = .ok (.getfield 116, 3) := by decide +kernel
theorem dX0_paper_4 : decode cX0_paper 4 = .ok (.bipush 60, 2) := by decide +kernel
theorem dX0_paper_6 : decode cX0_paper 6 = .ok (.if_icmp .eq 69, 3) := by decide +kernel
theorem dX0_paper_9 : decode cX0_paper 9 = .ok (.aload_n 0, 1) := by decide +kernel
theorem dX0_paper_10 : decode cX0_paper 10 = .ok (.iload_n 1, 1) := by decide +kernel
theorem dX0_paper_11 : decode cX0_paper 11 = .ok (.invokevirtual 119, 3) := by decide +kernel
theorem dX0_paper_14 : decode cX0_paper 14 = .ok (.ifCond .eq 61, 3) := by decide +kernel
theorem dX0_paper_17 : decode cX0_paper 17 = .ok (.aload_n 0, 1) := by decide +kernel
theorem dX0_paper_18 : decode cX0_paper 18 = .ok (.iload_n 2, 1) := by decide +kernel
theorem dX0_paper_19 : decode cX0_paper 19 = .ok (.invokevirtual 99, 3) := by decide +kernel
theorem dX0_paper_22 : decode cX0_paper 22 = .ok (.ifCond .eq 53, 3) := by decide +kernel
theorem dX0_paper_25 : decode cX0_paper 25 = .ok (.aload_n 0, 1) := by decide +kernel
theorem dX0_paper_26 : decode cX0_paper 26 = .ok (.iload_n 3, 1) := by decide +kernel
theorem dX0_paper_27 : decode cX0_paper 27 = .ok (.invokevirtual 99, 3) := by decide +kernel
theorem dX0_paper_30 : decode cX0_paper 30 = .ok (.ifCond .eq 45, 3) := by decide +kernel
theorem dX0_paper_33 : decode cX0_paper 33 = .ok (.iload_n 2, 1) := by decide +kernel
theorem dX0_paper_34 : decode cX0_paper 34 = .ok (.iload_n 3, 1) := by decide +kernel
theorem dX0_paper_35 : decode cX0_paper 35 = .ok (.if_icmp .eq 40, 3) := by decide +kernel
theorem dX0_paper_38 : decode cX0_paper 38 = .ok (.iload 4, 2) := by decide +kernel
theorem dX0_paper_40 : decode cX0_paper 40 = .ok (.ifCond .lt 35, 3) := by decide +kernel
theorem dX0_paper_43 : decode cX0_paper 43 = .ok (.iload 4, 2) := by decide +kernel
theorem dX0_paper_45 : decode cX0_paper 45 = .ok (.aload_n 0, 1) := by decide +kernel
theorem dX0_paper_46 : decode cX0_paper 46 = .ok (.getfield 122, 3) := by decide +kernel
theorem dX0_paper_49 : decode cX0_paper 49 = .ok (.if_icmp .gt 26, 3) := by decide +kernel
theorem dX0_paper_52 : decode cX0_paper 52 = .ok (.iload 5, 2) := by decide +kernel
theorem dX0_paper_54 : decode cX0_paper 54 = .ok (.ifCond .lt 21, 3) := by decide +kernel
theorem dX0_paper_57 : decode cX0_paper 57 = .ok (.iload 5, 2) := by decide +kernel
theorem dX0_paper_59 : decode cX0_paper 59 = .ok (.iconst 2, 1) := by decide +kernel
theorem dX0_paper_60 : decode cX0_paper 60 = .ok (.if_icmp .gt 15, 3) := by decide +kernel
theorem dX0_paper_63 : decode cX0_paper 63 = .ok (.iload 6, 2) := by decide +kernel
theorem dX0_paper_65 : decode cX0_paper 65 = .ok (.ifCond .lt 10, 3) := by decide +kernel
theorem dX0_paper_68 : decode cX0_paper 68 = .ok (.iload 6, 2) := by decide +kernel
theorem dX0_paper_70 : decode cX0_paper 70 = .ok (.ldc 106, 2) := by decide +kernel
theorem dX0_paper_72 : decode cX0_paper 72 = .ok (.if_icmp .le 5, 3) := by decide +kernel
theorem dX0_paper_75 : decode cX0_paper 75 = .ok (.iconst (-1), 1) := by decide +kernel
theorem dX0_paper_76 : decode cX0_paper 76 = .ok (.ireturn, 1) := by decide +kernel
theorem dX0_paper_77 : decode cX0_paper 77 = .ok (.aload_n 0, 1) := by decide +kernel
theorem dX0_paper_78 : decode cX0_paper 78 = .ok (.getfield 47, 3) := by decide +kernel
theorem dX0_paper_81 : decode cX0_paper 81 = .ok (.aload_n 0, 1) := by decide +kernel
theorem dX0_paper_82 : decode cX0_paper 82 = .ok (.getfield 116, 3) := by decide +kernel
theorem dX0_paper_85 : decode cX0_paper 85 = .ok (.new 45, 3) := by decide +kernel
theorem dX0_paper_88 : decode cX0_paper 88 = .ok (.dup, 1) := by decide +kernel
theorem dX0_paper_89 : decode cX0_paper 89 = .ok (.aload_n 0, 1) := by decide +kernel
theorem dX0_paper_90 : decode cX0_paper 90 = .ok (.getfield 116, 3) := by decide +kernel
theorem dX0_paper_93 : decode cX0_paper 93 = .ok (.iload_n 1, 1) := by decide +kernel
theorem dX0_paper_94 : decode cX0_paper 94 = .ok (.iload_n 2, 1) := by decide +kernel
theorem dX0_paper_95 : decode cX0_paper 95 = .ok (.iload_n 3, 1) := by decide +kernel
theorem dX0_paper_96 : decode cX0_paper 96 = .ok (.iload 4, 2) := by decide +kernel
theorem dX0_paper_98 : decode cX0_paper 98 = .ok (.iload 5, 2) := by decide +kernel
theorem dX0_paper_100 : decode cX0_paper 100 = .ok (.iload 6, 2) := by decide +kernel
theorem dX0_paper_102 : decode cX0_paper 102 = .ok (.aload_n 0, 1) := by decide +kernel
theorem dX0_paper_103 : decode cX0_paper 103 = .ok (.getfield 122, 3) := by decide +kernel
theorem dX0_paper_106 : decode cX0_paper 106 = .ok (.invokespecial 125, 3) := by decide +kernel
theorem dX0_paper_109 : decode cX0_paper 109 = .ok (.aastore, 1) := by decide +kernel
theorem dX0_paper_110 : decode cX0_paper 110 = .ok (.aload_n 0, 1) := by decide +kernel
theorem dX0_paper_111 : decode cX0_paper 111 = .ok (.dup, 1) := by decide +kernel
theorem dX0_paper_112 : decode cX0_paper 112 = .ok (.getfield 116, 3) := by decide +kernel
theorem dX0_paper_115 : decode cX0_paper 115 = .ok (.iconst 1, 1) := by decide +kernel
theorem dX0_paper_116 : decode cX0_paper 116 = .ok (.iadd, 1) := by decide +kernel
theorem dX0_paper_117 : decode cX0_paper 117 = .ok (.putfield 116, 3) := by decide +kernel
theorem dX0_paper_120 : decode cX0_paper 120 = .ok (.aload_n 0, 1) := by decide +kernel
theorem dX0_paper_121 : decode cX0_paper 121 = .ok (.getfield 116, 3) := by decide +kernel
theorem dX0_paper_124 : decode cX0_paper 124 = .ok (.iconst 1, 1) := by decide +kernel
theorem dX0_paper_125 : decode cX0_paper 125 = .ok (.isub, 1) := by decide +kernel
theorem dX0_paper_126 : decode cX0_paper 126 = .ok (.ireturn, 1) := by decide +kernel
theorem dX0_isHouse_0 : decode cX0_isHouse 0 = .ok (.iload_n 1, 1) := by decide +kernel
theorem dX0_isHouse_1 : decode cX0_isHouse 1 = .ok (.ifCond .lt 15, 3) := by decide +kernel
theorem dX0_isHouse_4 : decode cX0_isHouse 4 = .ok (.iload_n 1, 1) := by decide +kernel
theorem dX0_isHouse_5 : decode cX0_isHouse 5 = .ok (.aload_n 0, 1) := by decide +kernel
theorem dX0_isHouse_6 : decode cX0_isHouse 6 = .ok (.getfield 95, 3) := by decide +kernel
theorem dX0_isHouse_9 : decode cX0_isHouse 9 = .ok (.if_icmp .ge 7, 3) := by decide +kernel
theorem dX0_isHouse_12 : decode cX0_isHouse 12 = .ok (.iconst 1, 1) := by decide +kernel
theorem dX0_isHouse_13 : decode cX0_isHouse 13 = .ok (.goto 4, 3) := by decide +kernel
theorem dX0_isHouse_16 : decode cX0_isHouse 16 = .ok (.iconst 0, 1) := by decide +kernel
theorem dX0_isHouse_17 : decode cX0_isHouse 17 = .ok (.ireturn, 1) := by decide +kernel
theorem dX0_isFalse_0 : decode cX0_isFalse 0 = .ok (.aload_n 0, 1) := by decide +kernel
theorem dX0_isFalse_1 : decode cX0_isFalse 1 = .ok (.iload_n 1, 1) := by decide +kernel
theorem dX0_isFalse_2 : decode cX0_isFalse 2 = .ok (.invokevirtual 128, 3) := by decide +kernel
theorem dX0_isFalse_5 : decode cX0_isFalse 5 = .ok (.astore_n 2, 1) := by decide +kernel
theorem dX0_isFalse_6 : decode cX0_isFalse 6 = .ok (.aload_n 2, 1) := by decide +kernel
theorem dX0_isFalse_7 : decode cX0_isFalse 7 = .ok (.ifnull 10, 3) := by decide +kernel
theorem dX0_isFalse_10 : decode cX0_isFalse 10 = .ok (.aload_n 2, 1) := by decide +kernel
theorem dX0_isFalse_11 : decode cX0_isFalse 11 = .ok (.getfield 132, 3) := by decide +kernel
theorem dX0_isFalse_14 : decode cX0_isFalse 14 = .ok (.ifCond .lt 5, 3) := by decide +kernel
theorem dX0_isFalse_17 : decode cX0_isFalse 17 = .ok (.iconst 0, 1) := by decide +kernel
theorem dX0_isFalse_18 : decode cX0_isFalse 18 = .ok (.ireturn, 1) := by decide +kernel
theorem dX0_isFalse_19 : decode cX0_isFalse 19 = .ok (.aload_n 2, 1) := by decide +kernel
theorem dX0_isFalse_20 : decode cX0_isFalse 20 = .ok (.aload_n 0, 1) := by decide +kernel
theorem dX0_isFalse_21 : decode cX0_isFalse 21 = .ok (.getfield 122, 3) := by decide +kernel
theorem dX0_isFalse_24 : decode cX0_isFalse 24 = .ok (.putfield 132, 3) := by decide +kernel
theorem dX0_isFalse_27 : decode cX0_isFalse 27 = .ok (.iconst 1, 1) := by decide +kernel
theorem dX0_isFalse_28 : decode cX0_isFalse 28 = .ok (.ireturn, 1) := by decide +kernel
theorem dX0_paperAt_0 : decode cX0_paperAt 0 = .ok (.iload_n 1, 1) := by decide +kernel
theorem dX0_paperAt_1 : decode cX0_paperAt 1 = .ok (.ifCond .lt 20, 3) := by decide +kernel
theorem dX0_paperAt_4 : decode cX0_paperAt 4 = .ok (.iload_n 1, 1) := by decide +kernel
theorem dX0_paperAt_5 : decode cX0_paperAt 5 = .ok (.aload_n 0, 1) := by decide +kernel
theorem dX0_paperAt_6 : decode cX0_paperAt 6 = .ok (.getfield 116, 3) := by decide +kernel
theorem dX0_paperAt_9 : decode cX0_paperAt 9 = .ok (.if_icmp .ge 12, 3) := by decide +kernel
theorem dX0_paperAt_12 : decode cX0_paperAt 12 = .ok (.aload_n 0, 1) := by decide +kernel
theorem dX0_paperAt_13 : decode cX0_paperAt 13 = .ok (.getfield 47, 3) := by decide +kernel
theorem dX0_paperAt_16 : decode cX0_paperAt 16 = .ok (.iload_n 1, 1) := by decide +kernel
theorem dX0_paperAt_17 : decode cX0_paperAt 17 = .ok (.aaload, 1) := by decide +kernel
theorem dX0_paperAt_18 : decode cX0_paperAt 18 = .ok (.goto 4, 3) := by decide +kernel
theorem dX0_paperAt_21 : decode cX0_paperAt 21 = .ok (.aconst_null, 1) := by decide +kernel
theorem dX0_paperAt_22 : decode cX0_paperAt 22 = .ok (.areturn, 1) := by decide +kernel
theorem dX0_later_0 : decode cX0_later 0 = .ok (.iload_n 1, 1) := by decide +kernel
theorem dX0_later_1 : decode cX0_later 1 = .ok (.ifCond .lt 21, 3) := by decide +kernel
theorem dX0_later_4 : decode cX0_later 4 = .ok (.iload_n 1, 1) := by decide +kernel
theorem dX0_later_5 : decode cX0_later 5 = .ok (.sipush 1000, 3) := by decide +kernel
theorem dX0_later_8 : decode cX0_later 8 = .ok (.if_icmp .gt 14, 3) := by decide +kernel
theorem dX0_later_11 : decode cX0_later 11 = .ok (.aload_n 0, 1) := by decide +kernel
theorem dX0_later_12 : decode cX0_later 12 = .ok (.getfield 122, 3) := by decide +kernel
theorem dX0_later_15 : decode cX0_later 15 = .ok (.iload_n 1, 1) := by decide +kernel
theorem dX0_later_16 : decode cX0_later 16 = .ok (.iadd, 1) := by decide +kernel
theorem dX0_later_17 : decode cX0_later 17 = .ok (.ldc 98, 2) := by decide +kernel
theorem dX0_later_19 : decode cX0_later 19 = .ok (.if_icmp .le 5, 3) := by decide +kernel
theorem dX0_later_22 : decode cX0_later 22 = .ok (.iconst (-1), 1) := by decide +kernel
theorem dX0_later_23 : decode cX0_later 23 = .ok (.ireturn, 1) := by decide +kernel
theorem dX0_later_24 : decode cX0_later 24 = .ok (.aload_n 0, 1) := by decide +kernel
theorem dX0_later_25 : decode cX0_later 25 = .ok (.dup, 1) := by decide +kernel
theorem dX0_later_26 : decode cX0_later 26 = .ok (.getfield 122, 3) := by decide +kernel
theorem dX0_later_29 : decode cX0_later 29 = .ok (.iload_n 1, 1) := by decide +kernel
theorem dX0_later_30 : decode cX0_later 30 = .ok (.iadd, 1) := by decide +kernel
theorem dX0_later_31 : decode cX0_later 31 = .ok (.putfield 122, 3) := by decide +kernel
theorem dX0_later_34 : decode cX0_later 34 = .ok (.aload_n 0, 1) := by decide +kernel
theorem dX0_later_35 : decode cX0_later 35 = .ok (.getfield 122, 3) := by decide +kernel
theorem dX0_later_38 : decode cX0_later 38 = .ok (.ireturn, 1) := by decide +kernel
theorem dX0_holder_0 : decode cX0_holder 0 = .ok (.aload_n 0, 1) := by decide +kernel
theorem dX0_holder_1 : decode cX0_holder 1 = .ok (.iload_n 1, 1) := by decide +kernel
theorem dX0_holder_2 : decode cX0_holder 2 = .ok (.invokevirtual 119, 3) := by decide +kernel
theorem dX0_holder_5 : decode cX0_holder 5 = .ok (.ifCond .ne 5, 3) := by decide +kernel
theorem dX0_holder_8 : decode cX0_holder 8 = .ok (.iconst (-1), 1) := by decide +kernel
theorem dX0_holder_9 : decode cX0_holder 9 = .ok (.ireturn, 1) := by decide +kernel
theorem dX0_holder_10 : decode cX0_holder 10 = .ok (.aload_n 0, 1) := by decide +kernel
theorem dX0_holder_11 : decode cX0_holder 11 = .ok (.iload_n 1, 1) := by decide +kernel
theorem dX0_holder_12 : decode cX0_holder 12 = .ok (.iload_n 2, 1) := by decide +kernel
theorem dX0_holder_13 : decode cX0_holder 13 = .ok (.iload_n 3, 1) := by decide +kernel
theorem dX0_holder_14 : decode cX0_holder 14 = .ok (.aconst_null, 1) := by decide +kernel
theorem dX0_holder_15 : decode cX0_holder 15 = .ok (.invokevirtual 172, 3) := by decide +kernel
theorem dX0_holder_18 : decode cX0_holder 18 = .ok (.aload_n 0, 1) := by decide +kernel
theorem dX0_holder_19 : decode cX0_holder 19 = .ok (.getfield 135, 3) := by decide +kernel
theorem dX0_holder_22 : decode cX0_holder 22 = .ok (.ireturn, 1) := by decide +kernel
theorem dX0_follow_0 : decode cX0_follow 0 = .ok (.aload_n 0, 1) := by decide +kernel
theorem dX0_follow_1 : decode cX0_follow 1 = .ok (.aload_n 0, 1) := by decide +kernel
theorem dX0_follow_2 : decode cX0_follow 2 = .ok (.getfield 36, 3) := by decide +kernel
theorem dX0_follow_5 : decode cX0_follow 5 = .ok (.iload_n 1, 1) := by decide +kernel
theorem dX0_follow_6 : decode cX0_follow 6 = .ok (.iaload, 1) := by decide +kernel
theorem dX0_follow_7 : decode cX0_follow 7 = .ok (.putfield 135, 3) := by decide +kernel
theorem dX0_follow_10 : decode cX0_follow 10 = .ok (.aload_n 0, 1) := by decide +kernel
theorem dX0_follow_11 : decode cX0_follow 11 = .ok (.iconst 0, 1) := by decide +kernel
theorem dX0_follow_12 : decode cX0_follow 12 = .ok (.putfield 138, 3) := by decide +kernel
theorem dX0_follow_15 : decode cX0_follow 15 = .ok (.aload_n 0, 1) := by decide +kernel
theorem dX0_follow_16 : decode cX0_follow 16 = .ok (.iconst 1, 1) := by decide +kernel
theorem dX0_follow_17 : decode cX0_follow 17 = .ok (.putfield 141, 3) := by decide +kernel
theorem dX0_follow_20 : decode cX0_follow 20 = .ok (.aload_n 0, 1) := by decide +kernel
theorem dX0_follow_21 : decode cX0_follow 21 = .ok (.iconst 0, 1) := by decide +kernel
theorem dX0_follow_22 : decode cX0_follow 22 = .ok (.putfield 145, 3) := by decide +kernel
theorem dX0_follow_25 : decode cX0_follow 25 = .ok (.aload_n 0, 1) := by decide +kernel
theorem dX0_follow_26 : decode cX0_follow 26 = .ok (.iconst 0, 1) := by decide +kernel
theorem dX0_follow_27 : decode cX0_follow 27 = .ok (.putfield 148, 3) := by decide +kernel
theorem dX0_follow_30 : decode cX0_follow 30 = .ok (.iconst (-1), 1) := by decide +kernel
theorem dX0_follow_31 : decode cX0_follow 31 = .ok (.istore 5, 2) := by decide +kernel
theorem dX0_follow_33 : decode cX0_follow 33 = .ok (.iconst (-1), 1) := by decide +kernel
theorem dX0_follow_34 : decode cX0_follow 34 = .ok (.istore 6, 2) := by decide +kernel
theorem dX0_follow_36 : decode cX0_follow 36 = .ok (.aload_n 0, 1) := by decide +kernel
theorem dX0_follow_37 : decode cX0_follow 37 = .ok (.iload_n 1, 1) := by decide +kernel
theorem dX0_follow_38 : decode cX0_follow 38 = .ok (.iload_n 2, 1) := by decide +kernel
theorem dX0_follow_39 : decode cX0_follow 39 = .ok (.iload_n 3, 1) := by decide +kernel
theorem dX0_follow_40 : decode cX0_follow 40 = .ok (.iload 5, 2) := by decide +kernel
theorem dX0_follow_42 : decode cX0_follow 42 = .ok (.iload 6, 2) := by decide +kernel
theorem dX0_follow_44 : decode cX0_follow 44 = .ok (.invokevirtual 151, 3) := by decide +kernel
theorem dX0_follow_47 : decode cX0_follow 47 = .ok (.astore 7, 2) := by decide +kernel
theorem dX0_follow_49 : decode cX0_follow 49 = .ok (.aload 7, 2) := by decide +kernel
theorem dX0_follow_51 : decode cX0_follow 51 = .ok (.ifnull 125, 3) := by decide +kernel
theorem dX0_follow_54 : decode cX0_follow 54 = .ok (.aload 7, 2) := by decide +kernel
theorem dX0_follow_56 : decode cX0_follow 56 = .ok (.getfield 155, 3) := by decide +kernel
theorem dX0_follow_59 : decode cX0_follow 59 = .ok (.istore 5, 2) := by decide +kernel
theorem dX0_follow_61 : decode cX0_follow 61 = .ok (.aload 7, 2) := by decide +kernel
theorem dX0_follow_63 : decode cX0_follow 63 = .ok (.getfield 158, 3) := by decide +kernel
theorem dX0_follow_66 : decode cX0_follow 66 = .ok (.istore 6, 2) := by decide +kernel
theorem dX0_follow_68 : decode cX0_follow 68 = .ok (.aload_n 0, 1) := by decide +kernel
theorem dX0_follow_69 : decode cX0_follow 69 = .ok (.getfield 135, 3) := by decide +kernel
theorem dX0_follow_72 : decode cX0_follow 72 = .ok (.aload 7, 2) := by decide +kernel
theorem dX0_follow_74 : decode cX0_follow 74 = .ok (.getfield 161, 3) := by decide +kernel
theorem dX0_follow_77 : decode cX0_follow 77 = .ok (.if_icmp .ne 7, 3) := by decide +kernel
theorem dX0_follow_80 : decode cX0_follow 80 = .ok (.iconst 1, 1) := by decide +kernel
theorem dX0_follow_81 : decode cX0_follow 81 = .ok (.goto 4, 3) := by decide +kernel
theorem dX0_follow_84 : decode cX0_follow 84 = .ok (.iconst 0, 1) := by decide +kernel
theorem dX0_follow_85 : decode cX0_follow 85 = .ok (.istore 8, 2) := by decide +kernel
theorem dX0_follow_87 : decode cX0_follow 87 = .ok (.aload 7, 2) := by decide +kernel
theorem dX0_follow_89 : decode cX0_follow 89 = .ok (.aload 4, 2) := by decide +kernel
theorem dX0_follow_91 : decode cX0_follow 91 = .ok (.if_acmp .ne 24, 3) := by decide +kernel
theorem dX0_follow_94 : decode cX0_follow 94 = .ok (.iload 8, 2) := by decide +kernel
theorem dX0_follow_96 : decode cX0_follow 96 = .ok (.ifCond .eq 19, 3) := by decide +kernel
theorem dX0_follow_99 : decode cX0_follow 99 = .ok (.aload_n 0, 1) := by decide +kernel
theorem dX0_follow_100 : decode cX0_follow 100 = .ok (.iconst 0, 1) := by decide +kernel
theorem dX0_follow_101 : decode cX0_follow 101 = .ok (.putfield 141, 3) := by decide +kernel
theorem dX0_follow_104 : decode cX0_follow 104 = .ok (.aload_n 0, 1) := by decide +kernel
theorem dX0_follow_105 : decode cX0_follow 105 = .ok (.aload_n 0, 1) := by decide +kernel
theorem dX0_follow_106 : decode cX0_follow 106 = .ok (.getfield 138, 3) := by decide +kernel
theorem dX0_follow_109 : decode cX0_follow 109 = .ok (.putfield 145, 3) := by decide +kernel
theorem dX0_follow_112 : decode cX0_follow 112 = .ok (.goto 25, 3) := by decide +kernel
theorem dX0_follow_115 : decode cX0_follow 115 = .ok (.iload 8, 2) := by decide +kernel
theorem dX0_follow_117 : decode cX0_follow 117 = .ok (.ifCond .eq 20, 3) := by decide +kernel
theorem dX0_follow_120 : decode cX0_follow 120 = .ok (.aload_n 0, 1) := by decide +kernel
theorem dX0_follow_121 : decode cX0_follow 121 = .ok (.getfield 141, 3) := by decide +kernel
theorem dX0_follow_124 : decode cX0_follow 124 = .ok (.ifCond .ne 13, 3) := by decide +kernel
theorem dX0_follow_127 : decode cX0_follow 127 = .ok (.aload_n 0, 1) := by decide +kernel
theorem dX0_follow_128 : decode cX0_follow 128 = .ok (.dup, 1) := by decide +kernel
theorem dX0_follow_129 : decode cX0_follow 129 = .ok (.getfield 148, 3) := by decide +kernel
theorem dX0_follow_132 : decode cX0_follow 132 = .ok (.iconst 1, 1) := by decide +kernel
theorem dX0_follow_133 : decode cX0_follow 133 = .ok (.iadd, 1) := by decide +kernel
theorem dX0_follow_134 : decode cX0_follow 134 = .ok (.putfield 148, 3) := by decide +kernel
theorem dX0_follow_137 : decode cX0_follow 137 = .ok (.iload 8, 2) := by decide +kernel
theorem dX0_follow_139 : decode cX0_follow 139 = .ok (.ifCond .eq 21, 3) := by decide +kernel
theorem dX0_follow_142 : decode cX0_follow 142 = .ok (.aload_n 0, 1) := by decide +kernel
theorem dX0_follow_143 : decode cX0_follow 143 = .ok (.aload 7, 2) := by decide +kernel
theorem dX0_follow_145 : decode cX0_follow 145 = .ok (.getfield 164, 3) := by decide +kernel
theorem dX0_follow_148 : decode cX0_follow 148 = .ok (.putfield 135, 3) := by decide +kernel
theorem dX0_follow_151 : decode cX0_follow 151 = .ok (.aload_n 0, 1) := by decide +kernel
theorem dX0_follow_152 : decode cX0_follow 152 = .ok (.aload 7, 2) := by decide +kernel
theorem dX0_follow_154 : decode cX0_follow 154 = .ok (.getfield 155, 3) := by decide +kernel
theorem dX0_follow_157 : decode cX0_follow 157 = .ok (.putfield 138, 3) := by decide +kernel
theorem dX0_follow_160 : decode cX0_follow 160 = .ok (.aload_n 0, 1) := by decide +kernel
theorem dX0_follow_161 : decode cX0_follow 161 = .ok (.iload_n 1, 1) := by decide +kernel
theorem dX0_follow_162 : decode cX0_follow 162 = .ok (.iload_n 2, 1) := by decide +kernel
theorem dX0_follow_163 : decode cX0_follow 163 = .ok (.iload_n 3, 1) := by decide +kernel
theorem dX0_follow_164 : decode cX0_follow 164 = .ok (.iload 5, 2) := by decide +kernel
theorem dX0_follow_166 : decode cX0_follow 166 = .ok (.iload 6, 2) := by decide +kernel
theorem dX0_follow_168 : decode cX0_follow 168 = .ok (.invokevirtual 151, 3) := by decide +kernel
theorem dX0_follow_171 : decode cX0_follow 171 = .ok (.astore 7, 2) := by decide +kernel
theorem dX0_follow_173 : decode cX0_follow 173 = .ok (.goto (-124), 3) := by decide +kernel
theorem dX0_follow_176 : decode cX0_follow 176 = .ok (.return_, 1) := by decide +kernel
theorem dX0_following_0 : decode cX0_following 0 = .ok (.aconst_null, 1) := by decide +kernel
theorem dX0_following_1 : decode cX0_following 1 = .ok (.astore 6, 2) := by decide +kernel
theorem dX0_following_3 : decode cX0_following 3 = .ok (.iconst 0, 1) := by decide +kernel
theorem dX0_following_4 : decode cX0_following 4 = .ok (.istore 7, 2) := by decide +kernel
theorem dX0_following_6 : decode cX0_following 6 = .ok (.iload 7, 2) := by decide +kernel
theorem dX0_following_8 : decode cX0_following 8 = .ok (.aload_n 0, 1) := by decide +kernel
theorem dX0_following_9 : decode cX0_following 9 = .ok (.getfield 116, 3) := by decide +kernel
theorem dX0_following_12 : decode cX0_following 12 = .ok (.if_icmp .ge 100, 3) := by decide +kernel
theorem dX0_following_15 : decode cX0_following 15 = .ok (.aload_n 0, 1) := by decide +kernel
theorem dX0_following_16 : decode cX0_following 16 = .ok (.getfield 47, 3) := by decide +kernel
theorem dX0_following_19 : decode cX0_following 19 = .ok (.iload 7, 2) := by decide +kernel
theorem dX0_following_21 : decode cX0_following 21 = .ok (.aaload, 1) := by decide +kernel
theorem dX0_following_22 : decode cX0_following 22 = .ok (.astore 8, 2) := by decide +kernel
theorem dX0_following_24 : decode cX0_following 24 = .ok (.aload 8, 2) := by decide +kernel
theorem dX0_following_26 : decode cX0_following 26 = .ok (.getfield 167, 3) := by decide +kernel
theorem dX0_following_29 : decode cX0_following 29 = .ok (.iload_n 1, 1) := by decide +kernel
theorem dX0_following_30 : decode cX0_following 30 = .ok (.if_icmp .ne 76, 3) := by decide +kernel
theorem dX0_following_33 : decode cX0_following 33 = .ok (.aload 8, 2) := by decide +kernel
theorem dX0_following_35 : decode cX0_following 35 = .ok (.getfield 155, 3) := by decide +kernel
theorem dX0_following_38 : decode cX0_following 38 = .ok (.iload_n 2, 1) := by decide +kernel
theorem dX0_following_39 : decode cX0_following 39 = .ok (.if_icmp .gt 67, 3) := by decide +kernel
theorem dX0_following_42 : decode cX0_following 42 = .ok (.aload 8, 2) := by decide +kernel
theorem dX0_following_44 : decode cX0_following 44 = .ok (.iload_n 3, 1) := by decide +kernel
theorem dX0_following_45 : decode cX0_following 45 = .ok (.invokevirtual 170, 3) := by decide +kernel
theorem dX0_following_48 : decode cX0_following 48 = .ok (.ifCond .eq 58, 3) := by decide +kernel
theorem dX0_following_51 : decode cX0_following 51 = .ok (.aload 8, 2) := by decide +kernel
theorem dX0_following_53 : decode cX0_following 53 = .ok (.getfield 155, 3) := by decide +kernel
theorem dX0_following_56 : decode cX0_following 56 = .ok (.iload 4, 2) := by decide +kernel
theorem dX0_following_58 : decode cX0_following 58 = .ok (.if_icmp .lt 48, 3) := by decide +kernel
theorem dX0_following_61 : decode cX0_following 61 = .ok (.aload 8, 2) := by decide +kernel
theorem dX0_following_63 : decode cX0_following 63 = .ok (.getfield 155, 3) := by decide +kernel
theorem dX0_following_66 : decode cX0_following 66 = .ok (.iload 4, 2) := by decide +kernel
theorem dX0_following_68 : decode cX0_following 68 = .ok (.if_icmp .ne 16, 3) := by decide +kernel
theorem dX0_following_71 : decode cX0_following 71 = .ok (.aload 8, 2) := by decide +kernel
theorem dX0_following_73 : decode cX0_following 73 = .ok (.getfield 158, 3) := by decide +kernel
theorem dX0_following_76 : decode cX0_following 76 = .ok (.iload 5, 2) := by decide +kernel
theorem dX0_following_78 : decode cX0_following 78 = .ok (.if_icmp .gt 6, 3) := by decide +kernel
theorem dX0_following_81 : decode cX0_following 81 = .ok (.goto 25, 3) := by decide +kernel
theorem dX0_following_84 : decode cX0_following 84 = .ok (.aload 6, 2) := by decide +kernel
theorem dX0_following_86 : decode cX0_following 86 = .ok (.ifnull 16, 3) := by decide +kernel
theorem dX0_following_89 : decode cX0_following 89 = .ok (.aload 8, 2) := by decide +kernel
theorem dX0_following_91 : decode cX0_following 91 = .ok (.getfield 155, 3) := by decide +kernel
theorem dX0_following_94 : decode cX0_following 94 = .ok (.aload 6, 2) := by decide +kernel
theorem dX0_following_96 : decode cX0_following 96 = .ok (.getfield 155, 3) := by decide +kernel
theorem dX0_following_99 : decode cX0_following 99 = .ok (.if_icmp .ge 7, 3) := by decide +kernel
theorem dX0_following_102 : decode cX0_following 102 = .ok (.aload 8, 2) := by decide +kernel
theorem dX0_following_104 : decode cX0_following 104 = .ok (.astore 6, 2) := by decide +kernel
theorem dX0_following_106 : decode cX0_following 106 = .ok (.iinc 7 1, 3) := by decide +kernel
theorem dX0_following_109 : decode cX0_following 109 = .ok (.goto (-103), 3) := by decide +kernel
theorem dX0_following_112 : decode cX0_following 112 = .ok (.aload 6, 2) := by decide +kernel
theorem dX0_following_114 : decode cX0_following 114 = .ok (.areturn, 1) := by decide +kernel
theorem dX0_loose_0 : decode cX0_loose 0 = .ok (.aload_n 0, 1) := by decide +kernel
theorem dX0_loose_1 : decode cX0_loose 1 = .ok (.iload_n 1, 1) := by decide +kernel
theorem dX0_loose_2 : decode cX0_loose 2 = .ok (.invokevirtual 128, 3) := by decide +kernel
theorem dX0_loose_5 : decode cX0_loose 5 = .ok (.astore_n 3, 1) := by decide +kernel
theorem dX0_loose_6 : decode cX0_loose 6 = .ok (.aload_n 3, 1) := by decide +kernel
theorem dX0_loose_7 : decode cX0_loose 7 = .ok (.ifnull 11, 3) := by decide +kernel
theorem dX0_loose_10 : decode cX0_loose 10 = .ok (.aload_n 3, 1) := by decide +kernel
theorem dX0_loose_11 : decode cX0_loose 11 = .ok (.iload_n 2, 1) := by decide +kernel
theorem dX0_loose_12 : decode cX0_loose 12 = .ok (.invokevirtual 170, 3) := by decide +kernel
theorem dX0_loose_15 : decode cX0_loose 15 = .ok (.ifCond .ne 5, 3) := by decide +kernel
theorem dX0_loose_18 : decode cX0_loose 18 = .ok (.iconst (-1), 1) := by decide +kernel
theorem dX0_loose_19 : decode cX0_loose 19 = .ok (.ireturn, 1) := by decide +kernel
theorem dX0_loose_20 : decode cX0_loose 20 = .ok (.aload_n 0, 1) := by decide +kernel
theorem dX0_loose_21 : decode cX0_loose 21 = .ok (.aload_n 3, 1) := by decide +kernel
theorem dX0_loose_22 : decode cX0_loose 22 = .ok (.getfield 167, 3) := by decide +kernel
theorem dX0_loose_25 : decode cX0_loose 25 = .ok (.iload_n 2, 1) := by decide +kernel
theorem dX0_loose_26 : decode cX0_loose 26 = .ok (.iload_n 2, 1) := by decide +kernel
theorem dX0_loose_27 : decode cX0_loose 27 = .ok (.aload_n 3, 1) := by decide +kernel
theorem dX0_loose_28 : decode cX0_loose 28 = .ok (.invokevirtual 172, 3) := by decide +kernel
theorem dX0_loose_31 : decode cX0_loose 31 = .ok (.aload_n 0, 1) := by decide +kernel
